/-! THE MODEL READS BITS (8): groups under way -/
set_option maxRecDepth 100000
def WnOK (F dd : Nat) (τ : Tb) (b : Nat → Nat) (n N j d : Nat) : Prop := ∀ (h : Hp) (p fr m u t as : Nat) (of : Int32), MSrc h b n → MK h n p fr m u → MT h τ N → t < N → WFt τ j t → fr + j ≤ 150 →
  ∃ h1, fX6_want F dd 3000 (zI ↑t) of (zI ↑as) h = some h1 ∧ RU F dd τ t as of h h1 (9 * m) n fr m u (up b (8 * n) τ false d t p m)
/-- inside of a group: its part m0, its kids so far -/
def GU (b : Nat → Nat) (τ : Tb) (n N : Nat) (h0 h : Hp) (t as : Nat) (of : Int32) (q fr m0 u0 p : Nat) (num : Int32) {d : Nat} (l : List (Nat × Vt d)) : Prop :=
  MSrc h b n ∧ MT h τ N ∧ MK h n p (fr + 1) (m0 + 1 + szs l) (u0 + ozs l) ∧ gA h 3031 fr = zI ↑m0 ∧ PtI h m0 t of as num u0 ∧ PVs (fun w j u as => PV h τ d w j u (zI ↑m0) as (kdT τ q 0 as)) l (m0 + 1) u0 ∧ KM fr m0 u0 h0 h
section Gu
variable {F dd fr n N : Nat} {b : Nat → Nat} {τ : Tb}
theorem RU.pre {t as c0 c1 m u k1 d : Nat} {of : Int32} {h0 h h1 : Hp} {x : Option (Vt d × Nat)} (run : ∀ nf, fX6_isValue_47 F dd (nf + k1) 3000 2 h = fX6_isValue_47 F dd nf 3000 2 h1) (rv : RU F dd τ t as of h0 h1 c1 n fr m u x) (c : c0 + k1 ≤ c1) : RU F dd τ t as of h0 h c0 n fr m u x := by
  obtain ⟨k, h', r, p⟩ := rv
  refine ⟨k1 + k, h', fun nf => ?_, ?_⟩
  · rw [show nf + (k1 + k) = (nf + k) + k1 by omega, run, r]
  · cases x with
    | none => exact ⟨p.1, by have := p.2; omega⟩
    | some z => obtain ⟨v, a'⟩ := z; exact ⟨p.1, by have := p.2; omega⟩
theorem L_gp {h : Hp} {p m u : Nat} (R : MK h n p (fr + 1) m u) (nf : Nat) : fX6_isValue_47 F dd (nf + 1) 3000 2 h = cv (fX6_goOnPacked F dd 3000 h) fun h4 => fX6_isValue_47 F dd nf 3000 2 h4 := by
  have r7 := R.2.1
  rw [fX6_isValue_47]
  simp (disch := omega) only [mp607, mp608, mp609, mp611, mp612, mp613, mp614, mp615, mp616, mp617, mp618, mp619, mp620, mp621, mp622, mp625, mp626, mp631, mp632, mp633, mp636, mp637, mp638, mp639, mp640, mp641, mp642, mp643, mp645, mp646, mp650, mp651, mp652, mp653, mp654, mp655, mp656, mp657, mp658, ln3001, ln3002, ln3003, ln3004, ln3005, ln3006, ln3007, ln3008, ln3009, ln3010, ln3011, ln3012, ln3013, ln3014, ln3015, ln3016, ln3017, ln3018, ln3019, ln3020, ln3021, ln3022, ln3023, ln3024, ln3025, ln3026, ln3027, ln3028, ln3029, ln3030, ln3031, ln3032, ln3033, ln3034, ln3035, ln3036, ln3037, ln3038, ln3039, ck_t, nn_s, bn_d, ca_s, cv_s, oc_n, oc_s, cx_i, cx_r, cy_i, cy_r, gI_sI, gI_sP, gI_sA, gI_sR, gI_sJ, gI_nw, gI_nx, gP_sI, gP_sP, gP_sA, gP_sR, gP_sJ, gP_nw, gP_nx, gA_sI, gA_sP, gA_sA, gA_sR, gA_sJ, gA_nw, gA_nx, gR_sI, gR_sP, gR_sA, gR_sR, gR_sJ, gR_nw, gR_nx, reduceCtorEq, Nat.reduceEqDiff, or_self, or_true, true_or, or_false, false_or, eq_self, and_self, and_true, true_and, and_false, false_and, if_true, if_false, ↓reduceIte, ne_eq, not_true_eq_false, not_false_eq_true, zl0, zl1, zl2, zl3, zl4, zl5, zl6, zl7, zl8, zl9, zl10, zl12, zl15, zl16, zl20, zl31, zl32, zl48, zl97, zl99, zl100, zl120, zl127, zl128, zl129, zl130, zl137, zl150, zl160, zl169, zl254, zl255, zl256, zl4000, zl65535, zl65536, if_pos, if_neg, zn_inb, zn_cl, zn_eq, zn_lt, zn_le, zn_add, zn_sub, zn_mul, zn_addn, zn_eqn, zn_neq, zn_nlt, zn_nle, zn_ckb, isB_b2i, b2z0, b2z1, b2it, b2if, R.1.2.2.1, R.1.2.1]
theorem MK.uw {h h' : Hp} {p m u : Nat} (R : MK h n p fr m u) (U : UW 0 h h') : MK h' n p fr m u := by
  obtain ⟨⟨r1, r2, r3, r4, r5⟩, r7⟩ := R
  have J : ∀ g, ¬ g = 623 → ¬ g = 624 → gI h' g 3000 = gI h g 3000 := fun g q1 q2 => U.2.2.2.1 g 3000 (by omega)
  exact ⟨⟨(J _ (by decide) (by decide)).trans r1, (J _ (by decide) (by decide)).trans r2, (J _ (by decide) (by decide)).trans r3, (J _ (by decide) (by decide)).trans r4, (J _ (by decide) (by decide)).trans r5⟩, r7⟩
/-- the state behind unwrap, with another next place -/
theorem GU.go {h0 h h' : Hp} {t as q m0 u0 p d : Nat} {of num x : Int32} {l : List (Nat × Vt d)} (G : GU b τ n N h0 h t as of q fr m0 u0 p num l) (U : UW 0 h h') : GU b τ n N h0 (sA h' 3033 fr x) t as of q fr m0 u0 p num l := by
  obtain ⟨g1, g2, g3, g4, g5, g6, g7⟩ := G
  have K : KM fr m0 u0 h (sA h' 3033 fr x) := (KM.uw U).sA (by decide) (fun _ _ => Nat.le_refl _) (fun _ _ => by omega) (fun _ => by omega)
  have E : ∀ y i, ¬ y = 3016 → ¬ y = 3017 → ¬ y = 3033 → gA (sA h' 3033 fr x) y i = gA h y i := fun y i q1 q2 q3 => by rw [gA_sA, if_neg (by omega)]; exact U.2.2.2.2.1 y i q1 q2
  obtain ⟨p1, p2, p3, p4, p5⟩ := g5
  have R' : MK h' n p (fr + 1) (m0 + 1 + szs l) (u0 + ozs l) := g3.uw U
  refine ⟨K.ms g1, K.mt g2, R', (E _ _ (by omega) (by omega) (by omega)).trans g4, ⟨(E _ _ (by omega) (by omega) (by omega)).trans p1, (E _ _ (by omega) (by omega) (by omega)).trans p2, (E _ _ (by omega) (by omega) (by omega)).trans p3, (E _ _ (by omega) (by omega) (by omega)).trans p4, (E _ _ (by omega) (by omega) (by omega)).trans p5⟩, ?_, g7.tr (Nat.le_refl _) (Nat.le_refl _) (Nat.le_refl _) K⟩
  refine PVs.mono _ _ _ (fun p _ j' u' a1 a2 a3 a4 r => ?_) g6
  exact r.fr2 (lo := 0) (fun y i _ _ _ => E y i (by omega) (by omega) (by omega)) (fun i => E _ _ (by omega) (by omega) (by omega)) (by omega)
/-- the number of a group is set -/
theorem GU.set {h0 h : Hp} {t as q m0 u0 p d : Nat} {of num : Int32} {l : List (Nat × Vt d)} (G : GU b τ n N h0 h t as of q fr m0 u0 p num l) (x : Int32) : GU b τ n N h0 (sA h 3022 m0 x) t as of q fr m0 u0 p x l := by
  obtain ⟨g1, g2, g3, g4, g5, g6, g7⟩ := G
  have K : KM fr m0 u0 h (sA h 3022 m0 x) := (KM.rf _ _ _ _).sA (by decide) (fun _ _ => by omega) (fun _ _ => Nat.le_refl _) (fun _ => by omega)
  obtain ⟨p1, p2, p3, p4, p5⟩ := g5
  refine ⟨K.ms g1, K.mt g2, g3, by rw [gA_sA, if_neg (by omega)]; exact g4, ⟨by rw [gA_sA, if_neg (by omega)]; exact p1, by rw [gA_sA, if_neg (by omega)]; exact p2, by rw [gA_sA, if_neg (by omega)]; exact p3, by rw [gA_sA, if_pos ⟨rfl, rfl⟩], by rw [gA_sA, if_neg (by omega)]; exact p5⟩, ?_, g7.tr (Nat.le_refl _) (Nat.le_refl _) (Nat.le_refl _) K⟩
  refine PVs.mono _ _ _ (fun p _ j' u' a1 a2 a3 a4 r => ?_) g6
  exact r.fr2 (lo := m0 + 1) (fun y i _ _ hi => by rw [gA_sA, if_neg (by omega)]) (fun i => by rw [gA_sA, if_neg (by omega)]) a1
/-- a kid was read -/
theorem GU.kid {h0 h h' : Hp} {t as q m0 u0 p p1 d k : Nat} {of num : Int32} {l : List (Nat × Vt d)} {v : Vt d} (G : GU b τ n N h0 h t as of q fr m0 u0 p num l)
    (K : KM (fr + 1) (m0 + 1 + szs l) (u0 + ozs l) h h') (R : MK h' n p1 (fr + 1) (m0 + 1 + szs l + sz d v) (u0 + ozs l + oz d v)) (P : PV h' τ d v (m0 + 1 + szs l) (u0 + ozs l) (zI ↑m0) k (kdT τ q 0 k)) :
    GU b τ n N h0 h' t as of q fr m0 u0 p1 num (l ++ [(k, v)]) ∧ gA h' 3033 fr = gA h 3033 fr ∧ gA h' 3034 fr = gA h 3034 fr := by
  obtain ⟨g1, g2, g3, g4, g5, g6, g7⟩ := G
  have K0 : KM fr m0 u0 h h' := ⟨K.1, K.2.1, K.2.2.1, fun y i p q r => K.2.2.2.1 y i p q (by omega), fun y i p q r => K.2.2.2.2.1 y i p q (by omega), fun i q => K.2.2.2.2.2 i (by omega)⟩
  have e1' : szs (l ++ [(k, v)]) = szs l + sz d v := by rw [szs_app, szs_cons, szs_nil, Nat.add_zero]
  have e2' : ozs (l ++ [(k, v)]) = ozs l + oz d v := by rw [ozs_app, ozs_cons, ozs_nil, Nat.add_zero]
  refine ⟨⟨K.ms g1, K.mt g2, ?_, ?_, g5.km K (by omega), ?_, g7.tr (Nat.le_refl _) (Nat.le_refl _) (Nat.le_refl _) K0⟩, ?_, ?_⟩
  · rw [e1', e2', ← Nat.add_assoc, ← Nat.add_assoc]; exact R
  · rw [K.2.2.2.1 _ _ (by omega) (by omega) (by omega)]; exact g4
  · refine PVs.app (k, v) l (m0 + 1) u0 (PVs.mono _ _ _ (fun p _ j' u' a1 a2 a3 a4 r => ?_) g6) P
    exact r.km K (by omega) (by omega)
  · exact K.2.2.2.1 _ _ (by omega) (by omega) (by omega)
  · exact K.2.2.2.1 _ _ (by omega) (by omega) (by omega)
/-- a group is left -/
theorem GU.fin {h0 h : Hp} {t as q m0 u0 p d : Nat} {of : Int32} {l : List (Nat × Vt d)} (G : GU b τ n N h0 h t as of q fr m0 u0 p (zI ↑l.length) l) (k67 : tK τ q = 6 ∨ tK τ q = 7) {c0 : Nat} (hc : c0 + 1 ≤ 9 * (m0 + 1 + szs l)) :
    RU F dd τ t as of h0 (sI h 648 3000 (zI ↑fr)) c0 n fr m0 u0 (some ((mkV q (Int32.ofNat l.length) [] l : Vt (d + 1)), p)) := by
  obtain ⟨g1, g2, g3, g4, g5, g6, g7⟩ := G
  obtain ⟨⟨r1, r2, r3, r4, r5⟩, r7, r8, r9, r10⟩ := g3
  have kd : ∀ x : Int32, ∀ k, kdT τ q x k = kdT τ q 0 k := by
    intro x k
    rcases k67 with z | z
    · rw [kdT_6 z, kdT_6 z]
    · rw [kdT_7 z, kdT_7 z]
  refine ⟨0, _, fun _ => rfl, ⟨?_, ⟨?_, fun i x hx => (by cases hx), ?_⟩, g7.sI (by decide)⟩, by rw [sz_mk, ← Nat.add_assoc]; omega⟩
  · rw [sz_mk, oz_mk, List.length_nil, Nat.zero_add, ← Nat.add_assoc]
    exact ⟨⟨by rw [gI_sI, if_neg (by omega)]; exact r1, by rw [gI_sI, if_pos ⟨rfl, rfl⟩], by rw [gI_sI, if_neg (by omega)]; exact r3, by rw [gI_sI, if_neg (by omega)]; exact r4, by rw [gI_sI, if_neg (by omega)]; exact r5⟩, by omega, r8, r9, r10⟩
  · show PtI (sI h 648 3000 (zI ↑fr)) m0 t of as (Int32.ofNat l.length) u0
    rw [zI_nat]; exact g5
  · show PVs _ l (m0 + 1) (u0 + 0)
    refine PVs.mono _ _ _ (fun p _ j' u' a1 a2 a3 a4 r => ?_) g6
    show PV (sI h 648 3000 (zI ↑fr)) τ d p.2 j' u' (zI ↑m0) p.1 (kdT τ q (Int32.ofNat l.length) p.1)
    rw [kd]
    exact PV.fr2 (h := h) (h' := sI h 648 3000 (zI ↑fr)) (lo := 0) (fun y i _ _ _ => rfl) (fun i => rfl) r (by omega)
/-- one step of the loop inside of a group -/
theorem gp_go {h0 h : Hp} {t as q m0 u0 p d k jt : Nat} {of num : Int32} {l : List (Nat × Vt d)} (G : GU b τ n N h0 h t as of q fr m0 u0 p num l) (ht : t < N) (w : WFt τ jt t) (hj : jt ≤ 12) (hq : bas τ 200 t = q) (k67 : tK τ q = 6 ∨ tK τ q = 7) (hk : gA h 3033 fr = zI ↑k) (hm : m0 < 100) (hF : 1000 ≤ F) :
    ∃ h', UW 0 h h' ∧ q < N ∧ fX6_goOnPacked F dd 3000 h = fX6_goOnPacked_66 F dd 3000 (zI ↑fr) (zI ↑m0) (zI ↑q) (zI ↑k) (zI ↑k) (if tK τ q = 6 then zI ↑(tN τ q) else num) (sA h' 3033 fr (zI ↑(k + 1))) := by
  obtain ⟨g1, g2, g3, g4, g5, g6, g7⟩ := G
  have r7 := g3.2.1
  obtain ⟨h', e1', U, TA, hb, hlt⟩ := unw_ok (F := F) (d := dd) g1.1 g2 ht w hj (by omega)
  rw [hq] at hb hlt
  have hN := g2.1
  have M' := U.mp g1.1
  have T' := U.mt g2
  obtain ⟨⟨a1, a2, -⟩, -⟩ := T'.2 q hlt
  have bO : fX6_baseOf F dd 3000 (zI ↑m0) h = some (zI ↑q, h') := by
    unfold fX6_baseOf
    simp (disch := omega) only [mp607, mp608, mp609, mp611, mp612, mp613, mp614, mp615, mp616, mp617, mp618, mp619, mp620, mp621, mp622, mp625, mp626, mp631, mp632, mp633, mp636, mp637, mp638, mp639, mp640, mp641, mp642, mp643, mp645, mp646, mp650, mp651, mp652, mp653, mp654, mp655, mp656, mp657, mp658, ln3001, ln3002, ln3003, ln3004, ln3005, ln3006, ln3007, ln3008, ln3009, ln3010, ln3011, ln3012, ln3013, ln3014, ln3015, ln3016, ln3017, ln3018, ln3019, ln3020, ln3021, ln3022, ln3023, ln3024, ln3025, ln3026, ln3027, ln3028, ln3029, ln3030, ln3031, ln3032, ln3033, ln3034, ln3035, ln3036, ln3037, ln3038, ln3039, ck_t, nn_s, bn_d, ca_s, cv_s, oc_n, oc_s, cx_i, cx_r, cy_i, cy_r, gI_sI, gI_sP, gI_sA, gI_sR, gI_sJ, gI_nw, gI_nx, gP_sI, gP_sP, gP_sA, gP_sR, gP_sJ, gP_nw, gP_nx, gA_sI, gA_sP, gA_sA, gA_sR, gA_sJ, gA_nw, gA_nx, gR_sI, gR_sP, gR_sA, gR_sR, gR_sJ, gR_nw, gR_nx, reduceCtorEq, Nat.reduceEqDiff, or_self, or_true, true_or, or_false, false_or, eq_self, and_self, and_true, true_and, and_false, false_and, if_true, if_false, ↓reduceIte, ne_eq, not_true_eq_false, not_false_eq_true, zl0, zl1, zl2, zl3, zl4, zl5, zl6, zl7, zl8, zl9, zl10, zl12, zl15, zl16, zl20, zl31, zl32, zl48, zl97, zl99, zl100, zl120, zl127, zl128, zl129, zl130, zl137, zl150, zl160, zl169, zl254, zl255, zl256, zl4000, zl65535, zl65536, if_pos, if_neg, zn_inb, zn_cl, zn_eq, zn_lt, zn_le, zn_add, zn_sub, zn_mul, zn_addn, zn_eqn, zn_neq, zn_nlt, zn_nle, zn_ckb, isB_b2i, b2z0, b2z1, b2it, b2if, g1.1.2, g5.1, e1', hb]
  have hk' : gA h' 3033 fr = zI ↑k := by rw [U.2.2.2.2.1 _ _ (by omega) (by omega)]; exact hk
  have hp' : gA h' 3022 m0 = num := by rw [U.2.2.2.2.1 _ _ (by omega) (by omega)]; exact g5.2.2.2.1
  refine ⟨h', U, hlt, ?_⟩
  unfold fX6_goOnPacked
  rcases k67 with k6 | k7
  · rw [if_pos k6]
    simp (disch := omega) only [mp607, mp608, mp609, mp611, mp612, mp613, mp614, mp615, mp616, mp617, mp618, mp619, mp620, mp621, mp622, mp625, mp626, mp631, mp632, mp633, mp636, mp637, mp638, mp639, mp640, mp641, mp642, mp643, mp645, mp646, mp650, mp651, mp652, mp653, mp654, mp655, mp656, mp657, mp658, ln3001, ln3002, ln3003, ln3004, ln3005, ln3006, ln3007, ln3008, ln3009, ln3010, ln3011, ln3012, ln3013, ln3014, ln3015, ln3016, ln3017, ln3018, ln3019, ln3020, ln3021, ln3022, ln3023, ln3024, ln3025, ln3026, ln3027, ln3028, ln3029, ln3030, ln3031, ln3032, ln3033, ln3034, ln3035, ln3036, ln3037, ln3038, ln3039, ck_t, nn_s, bn_d, ca_s, cv_s, oc_n, oc_s, cx_i, cx_r, cy_i, cy_r, gI_sI, gI_sP, gI_sA, gI_sR, gI_sJ, gI_nw, gI_nx, gP_sI, gP_sP, gP_sA, gP_sR, gP_sJ, gP_nw, gP_nx, gA_sI, gA_sP, gA_sA, gA_sR, gA_sJ, gA_nw, gA_nx, gR_sI, gR_sP, gR_sA, gR_sR, gR_sJ, gR_nw, gR_nx, reduceCtorEq, Nat.reduceEqDiff, or_self, or_true, true_or, or_false, false_or, eq_self, and_self, and_true, true_and, and_false, false_and, if_true, if_false, ↓reduceIte, ne_eq, not_true_eq_false, not_false_eq_true, zl0, zl1, zl2, zl3, zl4, zl5, zl6, zl7, zl8, zl9, zl10, zl12, zl15, zl16, zl20, zl31, zl32, zl48, zl97, zl99, zl100, zl120, zl127, zl128, zl129, zl130, zl137, zl150, zl160, zl169, zl254, zl255, zl256, zl4000, zl65535, zl65536, if_pos, if_neg, zn_inb, zn_cl, zn_eq, zn_lt, zn_le, zn_add, zn_sub, zn_mul, zn_addn, zn_eqn, zn_neq, zn_nlt, zn_nle, zn_ckb, isB_b2i, b2z0, b2z1, b2it, b2if, g1.1.2, M'.2, g3.1.2.1, Nat.add_sub_cancel, g4, bO, hk', a1, a2, k6]
  · rw [if_neg (show ¬ tK τ q = 6 by omega)]
    simp (disch := omega) only [mp607, mp608, mp609, mp611, mp612, mp613, mp614, mp615, mp616, mp617, mp618, mp619, mp620, mp621, mp622, mp625, mp626, mp631, mp632, mp633, mp636, mp637, mp638, mp639, mp640, mp641, mp642, mp643, mp645, mp646, mp650, mp651, mp652, mp653, mp654, mp655, mp656, mp657, mp658, ln3001, ln3002, ln3003, ln3004, ln3005, ln3006, ln3007, ln3008, ln3009, ln3010, ln3011, ln3012, ln3013, ln3014, ln3015, ln3016, ln3017, ln3018, ln3019, ln3020, ln3021, ln3022, ln3023, ln3024, ln3025, ln3026, ln3027, ln3028, ln3029, ln3030, ln3031, ln3032, ln3033, ln3034, ln3035, ln3036, ln3037, ln3038, ln3039, ck_t, nn_s, bn_d, ca_s, cv_s, oc_n, oc_s, cx_i, cx_r, cy_i, cy_r, gI_sI, gI_sP, gI_sA, gI_sR, gI_sJ, gI_nw, gI_nx, gP_sI, gP_sP, gP_sA, gP_sR, gP_sJ, gP_nw, gP_nx, gA_sI, gA_sP, gA_sA, gA_sR, gA_sJ, gA_nw, gA_nx, gR_sI, gR_sP, gR_sA, gR_sR, gR_sJ, gR_nw, gR_nx, reduceCtorEq, Nat.reduceEqDiff, or_self, or_true, true_or, or_false, false_or, eq_self, and_self, and_true, true_and, and_false, false_and, if_true, if_false, ↓reduceIte, ne_eq, not_true_eq_false, not_false_eq_true, zl0, zl1, zl2, zl3, zl4, zl5, zl6, zl7, zl8, zl9, zl10, zl12, zl15, zl16, zl20, zl31, zl32, zl48, zl97, zl99, zl100, zl120, zl127, zl128, zl129, zl130, zl137, zl150, zl160, zl169, zl254, zl255, zl256, zl4000, zl65535, zl65536, if_pos, if_neg, zn_inb, zn_cl, zn_eq, zn_lt, zn_le, zn_add, zn_sub, zn_mul, zn_addn, zn_eqn, zn_neq, zn_nlt, zn_nle, zn_ckb, isB_b2i, b2z0, b2z1, b2it, b2if, g1.1.2, M'.2, g3.1.2.1, Nat.add_sub_cancel, g4, bO, hk', a1, a2, k7, hp']
/-- a component that is not there -/
theorem pabs_ok {h0 h : Hp} {t as q m0 u0 p d k : Nat} {of : Int32} {l : List (Nat × Vt (d + 1))} (G : GU b τ n N h0 h t as of q fr m0 u0 p (zI ↑l.length) l) (hq : q < N) (k6 : tK τ q = 6) (hk : k < tN τ q) (hk6 : tN τ q ≤ 6) (hF2 : tF τ q k ≤ 2) (hm : m0 < 100) (hl : l.length < 1000) :
    ∃ h', fX6_absent F dd 3000 (zI ↑m0) (zI ↑q) (zI ↑k) h = some h' ∧
      ((tF τ q k = 0 ∨ (tF τ q k = 2 ∧ ¬ m0 + 1 + szs l < 100)) → Bad h') ∧
      (tF τ q k = 2 → m0 + 1 + szs l < 100 → GU b τ n N h0 h' t as of q fr m0 u0 p (zI ↑(l.length + 1)) (l ++ [(k, dfl τ (d + 1) (tC τ q k) (tD τ q k))]) ∧ gA h' 3033 fr = gA h 3033 fr ∧ gA h' 3034 fr = gA h 3034 fr) ∧ (tF τ q k = 1 → h' = h) := by
  have G0 := G
  obtain ⟨g1, g2, g3, g4, g5, g6, g7⟩ := G
  have hN := g2.1
  obtain ⟨-, -, -, -, a9⟩ := g2.2 q hq
  obtain ⟨c1, c2, c3, c4⟩ := a9 k hk
  by_cases f0 : tF τ q k = 0
  · have E : fX6_absent F dd 3000 (zI ↑m0) (zI ↑q) (zI ↑k) h = some (sI h 649 3000 (zI ↑(0 : Nat))) := by
      unfold fX6_absent fX6_absent_23
      simp (disch := omega) only [mp607, mp608, mp609, mp611, mp612, mp613, mp614, mp615, mp616, mp617, mp618, mp619, mp620, mp621, mp622, mp625, mp626, mp631, mp632, mp633, mp636, mp637, mp638, mp639, mp640, mp641, mp642, mp643, mp645, mp646, mp650, mp651, mp652, mp653, mp654, mp655, mp656, mp657, mp658, ln3001, ln3002, ln3003, ln3004, ln3005, ln3006, ln3007, ln3008, ln3009, ln3010, ln3011, ln3012, ln3013, ln3014, ln3015, ln3016, ln3017, ln3018, ln3019, ln3020, ln3021, ln3022, ln3023, ln3024, ln3025, ln3026, ln3027, ln3028, ln3029, ln3030, ln3031, ln3032, ln3033, ln3034, ln3035, ln3036, ln3037, ln3038, ln3039, ck_t, nn_s, bn_d, ca_s, cv_s, oc_n, oc_s, cx_i, cx_r, cy_i, cy_r, gI_sI, gI_sP, gI_sA, gI_sR, gI_sJ, gI_nw, gI_nx, gP_sI, gP_sP, gP_sA, gP_sR, gP_sJ, gP_nw, gP_nx, gA_sI, gA_sP, gA_sA, gA_sR, gA_sJ, gA_nw, gA_nx, gR_sI, gR_sP, gR_sA, gR_sR, gR_sJ, gR_nw, gR_nx, reduceCtorEq, Nat.reduceEqDiff, or_self, or_true, true_or, or_false, false_or, eq_self, and_self, and_true, true_and, and_false, false_and, if_true, if_false, ↓reduceIte, ne_eq, not_true_eq_false, not_false_eq_true, zl0, zl1, zl2, zl3, zl4, zl5, zl6, zl7, zl8, zl9, zl10, zl12, zl15, zl16, zl20, zl31, zl32, zl48, zl97, zl99, zl100, zl120, zl127, zl128, zl129, zl130, zl137, zl150, zl160, zl169, zl254, zl255, zl256, zl4000, zl65535, zl65536, if_pos, if_neg, zn_inb, zn_cl, zn_eq, zn_lt, zn_le, zn_add, zn_sub, zn_mul, zn_addn, zn_eqn, zn_neq, zn_nlt, zn_nle, zn_ckb, isB_b2i, b2z0, b2z1, b2it, b2if, g1.1.2, c2, f0]
    rw [E]
    exact ⟨_, rfl, fun _ => by unfold Bad; simp (disch := omega) only [mp607, mp608, mp609, mp611, mp612, mp613, mp614, mp615, mp616, mp617, mp618, mp619, mp620, mp621, mp622, mp625, mp626, mp631, mp632, mp633, mp636, mp637, mp638, mp639, mp640, mp641, mp642, mp643, mp645, mp646, mp650, mp651, mp652, mp653, mp654, mp655, mp656, mp657, mp658, ln3001, ln3002, ln3003, ln3004, ln3005, ln3006, ln3007, ln3008, ln3009, ln3010, ln3011, ln3012, ln3013, ln3014, ln3015, ln3016, ln3017, ln3018, ln3019, ln3020, ln3021, ln3022, ln3023, ln3024, ln3025, ln3026, ln3027, ln3028, ln3029, ln3030, ln3031, ln3032, ln3033, ln3034, ln3035, ln3036, ln3037, ln3038, ln3039, ck_t, nn_s, bn_d, ca_s, cv_s, oc_n, oc_s, cx_i, cx_r, cy_i, cy_r, gI_sI, gI_sP, gI_sA, gI_sR, gI_sJ, gI_nw, gI_nx, gP_sI, gP_sP, gP_sA, gP_sR, gP_sJ, gP_nw, gP_nx, gA_sI, gA_sP, gA_sA, gA_sR, gA_sJ, gA_nw, gA_nx, gR_sI, gR_sP, gR_sA, gR_sR, gR_sJ, gR_nw, gR_nx, reduceCtorEq, Nat.reduceEqDiff, or_self, or_true, true_or, or_false, false_or, eq_self, and_self, and_true, true_and, and_false, false_and, if_true, if_false, ↓reduceIte, ne_eq, not_true_eq_false, not_false_eq_true, zl0, zl1, zl2, zl3, zl4, zl5, zl6, zl7, zl8, zl9, zl10, zl12, zl15, zl16, zl20, zl31, zl32, zl48, zl97, zl99, zl100, zl120, zl127, zl128, zl129, zl130, zl137, zl150, zl160, zl169, zl254, zl255, zl256, zl4000, zl65535, zl65536, if_pos, if_neg, zn_inb, zn_cl, zn_eq, zn_lt, zn_le, zn_add, zn_sub, zn_mul, zn_addn, zn_eqn, zn_neq, zn_nlt, zn_nle, zn_ckb, isB_b2i, b2z0, b2z1, b2it, b2if], fun z => by omega, fun z => by omega⟩
  · by_cases f2 : tF τ q k = 2
    · have c3 := c3 f2
      have G1 := G0.set (zI ↑(l.length + 1))
      have s1 := G1.1
      have s3 := G1.2.2.1
      have p4 := g5.2.2.2.1
      by_cases c : m0 + 1 + szs l < 100
      · obtain ⟨h', e1', R', P', K', -, -, -⟩ := padds_ok (F := F) (dd := dd) s1 s3 c (tC τ q k) k (zI ↑m0) (tD τ q k)
        have E : fX6_absent F dd 3000 (zI ↑m0) (zI ↑q) (zI ↑k) h = some h' := by
          unfold fX6_absent fX6_absent_23
          simp (disch := omega) only [mp607, mp608, mp609, mp611, mp612, mp613, mp614, mp615, mp616, mp617, mp618, mp619, mp620, mp621, mp622, mp625, mp626, mp631, mp632, mp633, mp636, mp637, mp638, mp639, mp640, mp641, mp642, mp643, mp645, mp646, mp650, mp651, mp652, mp653, mp654, mp655, mp656, mp657, mp658, ln3001, ln3002, ln3003, ln3004, ln3005, ln3006, ln3007, ln3008, ln3009, ln3010, ln3011, ln3012, ln3013, ln3014, ln3015, ln3016, ln3017, ln3018, ln3019, ln3020, ln3021, ln3022, ln3023, ln3024, ln3025, ln3026, ln3027, ln3028, ln3029, ln3030, ln3031, ln3032, ln3033, ln3034, ln3035, ln3036, ln3037, ln3038, ln3039, ck_t, nn_s, bn_d, ca_s, cv_s, oc_n, oc_s, cx_i, cx_r, cy_i, cy_r, gI_sI, gI_sP, gI_sA, gI_sR, gI_sJ, gI_nw, gI_nx, gP_sI, gP_sP, gP_sA, gP_sR, gP_sJ, gP_nw, gP_nx, gA_sI, gA_sP, gA_sA, gA_sR, gA_sJ, gA_nw, gA_nx, gR_sI, gR_sP, gR_sA, gR_sR, gR_sJ, gR_nw, gR_nx, reduceCtorEq, Nat.reduceEqDiff, or_self, or_true, true_or, or_false, false_or, eq_self, and_self, and_true, true_and, and_false, false_and, if_true, if_false, ↓reduceIte, ne_eq, not_true_eq_false, not_false_eq_true, zl0, zl1, zl2, zl3, zl4, zl5, zl6, zl7, zl8, zl9, zl10, zl12, zl15, zl16, zl20, zl31, zl32, zl48, zl97, zl99, zl100, zl120, zl127, zl128, zl129, zl130, zl137, zl150, zl160, zl169, zl254, zl255, zl256, zl4000, zl65535, zl65536, if_pos, if_neg, zn_inb, zn_cl, zn_eq, zn_lt, zn_le, zn_add, zn_sub, zn_mul, zn_addn, zn_eqn, zn_neq, zn_nlt, zn_nle, zn_ckb, isB_b2i, b2z0, b2z1, b2it, b2if, g1.1.2, c1, c2, c3, f2, p4, e1']
        rw [E]
        refine ⟨h', rfl, fun z => by omega, fun _ _ => ?_, fun z => by omega⟩
        have R2 : MK h' n p (fr + 1) (m0 + 1 + szs l + sz (d + 1) (dfl τ (d + 1) (tC τ q k) (tD τ q k))) (u0 + ozs l + oz (d + 1) (dfl τ (d + 1) (tC τ q k) (tD τ q k))) := R'
        have P2 : PV h' τ (d + 1) (dfl τ (d + 1) (tC τ q k) (tD τ q k)) (m0 + 1 + szs l) (u0 + ozs l) (zI ↑m0) k (kdT τ q 0 k) := by
          rw [kdT_6 k6]
          exact ⟨P', fun i x hx => (by cases hx), trivial⟩
        obtain ⟨z1, z2, z3⟩ := G1.kid K' R2 P2
        exact ⟨z1, z2.trans (by rw [gA_sA, if_neg (by omega)]), z3.trans (by rw [gA_sA, if_neg (by omega)])⟩
      · have e1' := padds_no (F := F) (dd := dd) s1 s3 c (zI ↑(tC τ q k)) (zI ↑k) (zI ↑m0) (tD τ q k)
        have E : fX6_absent F dd 3000 (zI ↑m0) (zI ↑q) (zI ↑k) h = some (sI (sA h 3022 m0 (zI ↑(l.length + 1))) 649 3000 (zI ↑(0 : Nat))) := by
          unfold fX6_absent fX6_absent_23
          simp (disch := omega) only [mp607, mp608, mp609, mp611, mp612, mp613, mp614, mp615, mp616, mp617, mp618, mp619, mp620, mp621, mp622, mp625, mp626, mp631, mp632, mp633, mp636, mp637, mp638, mp639, mp640, mp641, mp642, mp643, mp645, mp646, mp650, mp651, mp652, mp653, mp654, mp655, mp656, mp657, mp658, ln3001, ln3002, ln3003, ln3004, ln3005, ln3006, ln3007, ln3008, ln3009, ln3010, ln3011, ln3012, ln3013, ln3014, ln3015, ln3016, ln3017, ln3018, ln3019, ln3020, ln3021, ln3022, ln3023, ln3024, ln3025, ln3026, ln3027, ln3028, ln3029, ln3030, ln3031, ln3032, ln3033, ln3034, ln3035, ln3036, ln3037, ln3038, ln3039, ck_t, nn_s, bn_d, ca_s, cv_s, oc_n, oc_s, cx_i, cx_r, cy_i, cy_r, gI_sI, gI_sP, gI_sA, gI_sR, gI_sJ, gI_nw, gI_nx, gP_sI, gP_sP, gP_sA, gP_sR, gP_sJ, gP_nw, gP_nx, gA_sI, gA_sP, gA_sA, gA_sR, gA_sJ, gA_nw, gA_nx, gR_sI, gR_sP, gR_sA, gR_sR, gR_sJ, gR_nw, gR_nx, reduceCtorEq, Nat.reduceEqDiff, or_self, or_true, true_or, or_false, false_or, eq_self, and_self, and_true, true_and, and_false, false_and, if_true, if_false, ↓reduceIte, ne_eq, not_true_eq_false, not_false_eq_true, zl0, zl1, zl2, zl3, zl4, zl5, zl6, zl7, zl8, zl9, zl10, zl12, zl15, zl16, zl20, zl31, zl32, zl48, zl97, zl99, zl100, zl120, zl127, zl128, zl129, zl130, zl137, zl150, zl160, zl169, zl254, zl255, zl256, zl4000, zl65535, zl65536, if_pos, if_neg, zn_inb, zn_cl, zn_eq, zn_lt, zn_le, zn_add, zn_sub, zn_mul, zn_addn, zn_eqn, zn_neq, zn_nlt, zn_nle, zn_ckb, isB_b2i, b2z0, b2z1, b2it, b2if, g1.1.2, c1, c2, c3, f2, p4, e1']
        rw [E]
        exact ⟨_, rfl, fun _ => by unfold Bad; simp (disch := omega) only [mp607, mp608, mp609, mp611, mp612, mp613, mp614, mp615, mp616, mp617, mp618, mp619, mp620, mp621, mp622, mp625, mp626, mp631, mp632, mp633, mp636, mp637, mp638, mp639, mp640, mp641, mp642, mp643, mp645, mp646, mp650, mp651, mp652, mp653, mp654, mp655, mp656, mp657, mp658, ln3001, ln3002, ln3003, ln3004, ln3005, ln3006, ln3007, ln3008, ln3009, ln3010, ln3011, ln3012, ln3013, ln3014, ln3015, ln3016, ln3017, ln3018, ln3019, ln3020, ln3021, ln3022, ln3023, ln3024, ln3025, ln3026, ln3027, ln3028, ln3029, ln3030, ln3031, ln3032, ln3033, ln3034, ln3035, ln3036, ln3037, ln3038, ln3039, ck_t, nn_s, bn_d, ca_s, cv_s, oc_n, oc_s, cx_i, cx_r, cy_i, cy_r, gI_sI, gI_sP, gI_sA, gI_sR, gI_sJ, gI_nw, gI_nx, gP_sI, gP_sP, gP_sA, gP_sR, gP_sJ, gP_nw, gP_nx, gA_sI, gA_sP, gA_sA, gA_sR, gA_sJ, gA_nw, gA_nx, gR_sI, gR_sP, gR_sA, gR_sR, gR_sJ, gR_nw, gR_nx, reduceCtorEq, Nat.reduceEqDiff, or_self, or_true, true_or, or_false, false_or, eq_self, and_self, and_true, true_and, and_false, false_and, if_true, if_false, ↓reduceIte, ne_eq, not_true_eq_false, not_false_eq_true, zl0, zl1, zl2, zl3, zl4, zl5, zl6, zl7, zl8, zl9, zl10, zl12, zl15, zl16, zl20, zl31, zl32, zl48, zl97, zl99, zl100, zl120, zl127, zl128, zl129, zl130, zl137, zl150, zl160, zl169, zl254, zl255, zl256, zl4000, zl65535, zl65536, if_pos, if_neg, zn_inb, zn_cl, zn_eq, zn_lt, zn_le, zn_add, zn_sub, zn_mul, zn_addn, zn_eqn, zn_neq, zn_nlt, zn_nle, zn_ckb, isB_b2i, b2z0, b2z1, b2it, b2if], fun _ z => by omega, fun z => by omega⟩
    · have f1 : tF τ q k = 1 := by omega
      have E : fX6_absent F dd 3000 (zI ↑m0) (zI ↑q) (zI ↑k) h = some h := by
        unfold fX6_absent fX6_absent_23
        simp (disch := omega) only [mp607, mp608, mp609, mp611, mp612, mp613, mp614, mp615, mp616, mp617, mp618, mp619, mp620, mp621, mp622, mp625, mp626, mp631, mp632, mp633, mp636, mp637, mp638, mp639, mp640, mp641, mp642, mp643, mp645, mp646, mp650, mp651, mp652, mp653, mp654, mp655, mp656, mp657, mp658, ln3001, ln3002, ln3003, ln3004, ln3005, ln3006, ln3007, ln3008, ln3009, ln3010, ln3011, ln3012, ln3013, ln3014, ln3015, ln3016, ln3017, ln3018, ln3019, ln3020, ln3021, ln3022, ln3023, ln3024, ln3025, ln3026, ln3027, ln3028, ln3029, ln3030, ln3031, ln3032, ln3033, ln3034, ln3035, ln3036, ln3037, ln3038, ln3039, ck_t, nn_s, bn_d, ca_s, cv_s, oc_n, oc_s, cx_i, cx_r, cy_i, cy_r, gI_sI, gI_sP, gI_sA, gI_sR, gI_sJ, gI_nw, gI_nx, gP_sI, gP_sP, gP_sA, gP_sR, gP_sJ, gP_nw, gP_nx, gA_sI, gA_sP, gA_sA, gA_sR, gA_sJ, gA_nw, gA_nx, gR_sI, gR_sP, gR_sA, gR_sR, gR_sJ, gR_nw, gR_nx, reduceCtorEq, Nat.reduceEqDiff, or_self, or_true, true_or, or_false, false_or, eq_self, and_self, and_true, true_and, and_false, false_and, if_true, if_false, ↓reduceIte, ne_eq, not_true_eq_false, not_false_eq_true, zl0, zl1, zl2, zl3, zl4, zl5, zl6, zl7, zl8, zl9, zl10, zl12, zl15, zl16, zl20, zl31, zl32, zl48, zl97, zl99, zl100, zl120, zl127, zl128, zl129, zl130, zl137, zl150, zl160, zl169, zl254, zl255, zl256, zl4000, zl65535, zl65536, if_pos, if_neg, zn_inb, zn_cl, zn_eq, zn_lt, zn_le, zn_add, zn_sub, zn_mul, zn_addn, zn_eqn, zn_neq, zn_nlt, zn_nle, zn_ckb, isB_b2i, b2z0, b2z1, b2it, b2if, g1.1.2, c2, f1]
      rw [E]
      exact ⟨h, rfl, fun z => by omega, fun z => by omega, fun _ => rfl⟩
end Gu
