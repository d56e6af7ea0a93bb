/-! THE MODEL READS (7): groups under way -/
set_option maxRecDepth 100000
theorem PVs.app {d : Nat} {R : Vt d → Nat → Nat → Nat → Prop} (q : Nat × Vt d) : ∀ (l : List (Nat × Vt d)) (j u : Nat), PVs R l j u → R q.2 (j + szs l) (u + ozs l) q.1 → PVs R (l ++ [q]) j u := by
  intro l
  induction l with
  | nil => intro j u _ h; rw [szs_nil, ozs_nil] at h; exact ⟨h, trivial⟩
  | cons x l ih =>
    intro j u p h
    rw [szs_cons, ozs_cons, ← Nat.add_assoc, ← Nat.add_assoc] at h
    exact ⟨p.1, ih _ _ p.2 h⟩
theorem PV.fr2 {h h' : Hp} {τ : Tb} {lo : Nat} (e1 : ∀ y i, 3021 ≤ y → y ≤ 3025 → lo ≤ i → gA h' y i = gA h y i) (e2 : ∀ i, gA h' 3028 i = gA h 3028 i) :
    ∀ {d : Nat} {v : Vt d} {i u : Nat} {of : Int32} {as t : Nat}, PV h τ d v i u of as t → lo ≤ i → PV h' τ d v i u of as t := by
  intro d
  induction d with
  | zero => intro v i u of as t p; exact p.elim
  | succ d ih =>
    intro v i u of as t p h1
    obtain ⟨⟨p1, p2, p3, p4, p5⟩, p6, p7⟩ := p
    refine ⟨⟨(e1 _ _ (by omega) (by omega) (by omega)).trans p1, (e1 _ _ (by omega) (by omega) (by omega)).trans p2, (e1 _ _ (by omega) (by omega) (by omega)).trans p3, (e1 _ _ (by omega) (by omega) (by omega)).trans p4, (e1 _ _ (by omega) (by omega) (by omega)).trans p5⟩, fun q x hq => (e2 _).trans (p6 q x hq), ?_⟩
    exact PVs.mono _ _ _ (fun q _ j' u' a1 a2 a3 a4 r => ih r (by omega)) p7
section Gm
variable {F dd fr m u e n N j : Nat} {b : Nat → Nat} {τ : Tb} {rl : Int32}
/-- the header of a group -/
theorem grp_in {h : Hp} {a q x0 t as : Nat} {of : Int32} (S : MSrc h b n) (R : MR h a fr m u e) (T : MT h τ N) (hq : q < N) (hb : gI h 623 3000 = zI ↑q) (ht : gA h 3016 0 = zI ↑x0) (hx0 : x0 < 256) (he : e ≤ n) (hf : fr < 150) (k : tK τ q = 6 ∨ tK τ q = 7) :
    ∃ h1, fX6_inner F dd 3000 (zI ↑t) of (zI ↑as) h = some h1 ∧ (match (if m < 100 then ent b x0 a e else none) with
      | none => Bad h1
      | some (a1, e1, l) => MR h1 a1 (fr + 1) (m + 1) u e1 ∧ PtI h1 m t of as 0 u ∧ KM fr m u h h1 ∧ gA h1 3031 fr = zI ↑m ∧ gA h1 3035 fr = b2i l ∧ gA h1 3033 fr = zI ↑(0 : Nat) ∧ a + 2 ≤ a1 ∧ a1 ≤ e1 ∧ e1 ≤ e) := by
  obtain ⟨H1, H2⟩ := in_hd (F := F) (d := dd) (t := t) (as := as) (of := of) S R T hq hb ht hx0 he (by omega)
  by_cases C : m < 100 ∧ a < e ∧ b a = x0
  · obtain ⟨h2, e2, R2, P2, K2, b2⟩ := H1 C
    rw [e2, if_pos C.1, ent_s ⟨C.2.1, C.2.2⟩]
    have S2 := K2.ms S
    obtain ⟨h3, e3, q3⟩ := ment_ok (F := F) (d := dd) S2 R2 he hf (zI ↑m)
    have E48 : fX6_inner_48 F dd 3000 (zI ↑(tK τ q)) (zI ↑m) h2 = fX6_inner_89 F dd 3000 (zI ↑(tK τ q)) (zI ↑m) (zI ↑(1 : Nat)) h3 := by
      unfold fX6_inner_48 fX6_inner_64 fX6_inner_69
      rcases k with k | k
      · simp (disch := omega) only [mp607, mp608, mp609, mp611, mp612, mp613, mp614, mp615, mp616, mp617, mp618, mp619, mp620, mp621, mp622, mp625, mp626, mp631, mp632, mp633, mp636, mp637, mp638, mp639, mp640, mp641, mp642, mp643, mp645, mp646, mp650, mp651, mp652, mp653, mp654, mp655, mp656, mp657, mp658, ln3001, ln3002, ln3003, ln3004, ln3005, ln3006, ln3007, ln3008, ln3009, ln3010, ln3011, ln3012, ln3013, ln3014, ln3015, ln3016, ln3017, ln3018, ln3019, ln3020, ln3021, ln3022, ln3023, ln3024, ln3025, ln3026, ln3027, ln3028, ln3029, ln3030, ln3031, ln3032, ln3033, ln3034, ln3035, ln3036, ln3037, ln3038, ln3039, ck_t, nn_s, bn_d, ca_s, cv_s, oc_n, oc_s, cx_i, cx_r, cy_i, cy_r, gI_sI, gI_sP, gI_sA, gI_sR, gI_sJ, gI_nw, gI_nx, gP_sI, gP_sP, gP_sA, gP_sR, gP_sJ, gP_nw, gP_nx, gA_sI, gA_sP, gA_sA, gA_sR, gA_sJ, gA_nw, gA_nx, gR_sI, gR_sP, gR_sA, gR_sR, gR_sJ, gR_nw, gR_nx, Nat.reduceEqDiff, or_self, or_true, true_or, or_false, false_or, eq_self, and_self, and_true, true_and, and_false, false_and, if_true, if_false, ↓reduceIte, ne_eq, not_true_eq_false, not_false_eq_true, zl0, zl1, zl2, zl3, zl4, zl5, zl6, zl7, zl8, zl9, zl10, zl12, zl15, zl16, zl20, zl31, zl32, zl48, zl97, zl99, zl100, zl120, zl127, zl128, zl129, zl130, zl137, zl150, zl160, zl169, zl254, zl255, zl256, zl4000, zl65535, zl65536, if_pos, if_neg, zn_inb, zn_cl, zn_eq, zn_lt, zn_le, zn_add, zn_sub, zn_mul, zn_addn, zn_eqn, zn_neq, zn_nlt, zn_nle, zn_ckb, isB_b2i, b2z0, b2z1, b2it, b2if, k, R2.1.2.2.1, e3]
      · simp (disch := omega) only [mp607, mp608, mp609, mp611, mp612, mp613, mp614, mp615, mp616, mp617, mp618, mp619, mp620, mp621, mp622, mp625, mp626, mp631, mp632, mp633, mp636, mp637, mp638, mp639, mp640, mp641, mp642, mp643, mp645, mp646, mp650, mp651, mp652, mp653, mp654, mp655, mp656, mp657, mp658, ln3001, ln3002, ln3003, ln3004, ln3005, ln3006, ln3007, ln3008, ln3009, ln3010, ln3011, ln3012, ln3013, ln3014, ln3015, ln3016, ln3017, ln3018, ln3019, ln3020, ln3021, ln3022, ln3023, ln3024, ln3025, ln3026, ln3027, ln3028, ln3029, ln3030, ln3031, ln3032, ln3033, ln3034, ln3035, ln3036, ln3037, ln3038, ln3039, ck_t, nn_s, bn_d, ca_s, cv_s, oc_n, oc_s, cx_i, cx_r, cy_i, cy_r, gI_sI, gI_sP, gI_sA, gI_sR, gI_sJ, gI_nw, gI_nx, gP_sI, gP_sP, gP_sA, gP_sR, gP_sJ, gP_nw, gP_nx, gA_sI, gA_sP, gA_sA, gA_sR, gA_sJ, gA_nw, gA_nx, gR_sI, gR_sP, gR_sA, gR_sR, gR_sJ, gR_nw, gR_nx, Nat.reduceEqDiff, or_self, or_true, true_or, or_false, false_or, eq_self, and_self, and_true, true_and, and_false, false_and, if_true, if_false, ↓reduceIte, ne_eq, not_true_eq_false, not_false_eq_true, zl0, zl1, zl2, zl3, zl4, zl5, zl6, zl7, zl8, zl9, zl10, zl12, zl15, zl16, zl20, zl31, zl32, zl48, zl97, zl99, zl100, zl120, zl127, zl128, zl129, zl130, zl137, zl150, zl160, zl169, zl254, zl255, zl256, zl4000, zl65535, zl65536, if_pos, if_neg, zn_inb, zn_cl, zn_eq, zn_lt, zn_le, zn_add, zn_sub, zn_mul, zn_addn, zn_eqn, zn_neq, zn_nlt, zn_nle, zn_ckb, isB_b2i, b2z0, b2z1, b2it, b2if, k, R2.1.2.2.1, e3]
    rw [E48]
    cases hl : lnR b (a + 1) e true with
    | none =>
      rw [hl] at q3
      obtain ⟨a', B⟩ := q3
      unfold fX6_inner_89 fX6_inner_109
      rw [show gI h3 649 3000 = zI ↑(0 : Nat) from B.2.2.2.1, if_pos z00]
      exact in110_b B.2.2.2.1
    | some wl =>
      obtain ⟨w1, a1⟩ := wl
      rw [hl] at q3
      obtain ⟨R3, f1, f2, f3, f4, K3, -⟩ := q3
      obtain ⟨le1, le2⟩ := lnR_le hl
      have le3 : a1 ≤ lnE w1 a1 e ∧ lnE w1 a1 e ≤ e := by
        cases w1 with
        | none => simp only [Option.getD] at le2; exact ⟨by show a1 ≤ e; omega, Nat.le_refl _⟩
        | some k => simp only [Option.getD] at le2; exact ⟨by show a1 ≤ a1 + k; omega, le2⟩
      have E : fX6_inner_89 F dd 3000 (zI ↑(tK τ q)) (zI ↑m) (zI ↑(1 : Nat)) h3 = some h3 := by
        unfold fX6_inner_89 fX6_inner_109 fX6_inner_110 fX6_inner_123 fX6_inner_135 fX6_inner_156
        rcases k with k | k
        · simp (disch := omega) only [mp607, mp608, mp609, mp611, mp612, mp613, mp614, mp615, mp616, mp617, mp618, mp619, mp620, mp621, mp622, mp625, mp626, mp631, mp632, mp633, mp636, mp637, mp638, mp639, mp640, mp641, mp642, mp643, mp645, mp646, mp650, mp651, mp652, mp653, mp654, mp655, mp656, mp657, mp658, ln3001, ln3002, ln3003, ln3004, ln3005, ln3006, ln3007, ln3008, ln3009, ln3010, ln3011, ln3012, ln3013, ln3014, ln3015, ln3016, ln3017, ln3018, ln3019, ln3020, ln3021, ln3022, ln3023, ln3024, ln3025, ln3026, ln3027, ln3028, ln3029, ln3030, ln3031, ln3032, ln3033, ln3034, ln3035, ln3036, ln3037, ln3038, ln3039, ck_t, nn_s, bn_d, ca_s, cv_s, oc_n, oc_s, cx_i, cx_r, cy_i, cy_r, gI_sI, gI_sP, gI_sA, gI_sR, gI_sJ, gI_nw, gI_nx, gP_sI, gP_sP, gP_sA, gP_sR, gP_sJ, gP_nw, gP_nx, gA_sI, gA_sP, gA_sA, gA_sR, gA_sJ, gA_nw, gA_nx, gR_sI, gR_sP, gR_sA, gR_sR, gR_sJ, gR_nw, gR_nx, Nat.reduceEqDiff, or_self, or_true, true_or, or_false, false_or, eq_self, and_self, and_true, true_and, and_false, false_and, if_true, if_false, ↓reduceIte, ne_eq, not_true_eq_false, not_false_eq_true, zl0, zl1, zl2, zl3, zl4, zl5, zl6, zl7, zl8, zl9, zl10, zl12, zl15, zl16, zl20, zl31, zl32, zl48, zl97, zl99, zl100, zl120, zl127, zl128, zl129, zl130, zl137, zl150, zl160, zl169, zl254, zl255, zl256, zl4000, zl65535, zl65536, if_pos, if_neg, zn_inb, zn_cl, zn_eq, zn_lt, zn_le, zn_add, zn_sub, zn_mul, zn_addn, zn_eqn, zn_neq, zn_nlt, zn_nle, zn_ckb, isB_b2i, b2z0, b2z1, b2it, b2if, k, R3.1.2.2.1]
        · simp (disch := omega) only [mp607, mp608, mp609, mp611, mp612, mp613, mp614, mp615, mp616, mp617, mp618, mp619, mp620, mp621, mp622, mp625, mp626, mp631, mp632, mp633, mp636, mp637, mp638, mp639, mp640, mp641, mp642, mp643, mp645, mp646, mp650, mp651, mp652, mp653, mp654, mp655, mp656, mp657, mp658, ln3001, ln3002, ln3003, ln3004, ln3005, ln3006, ln3007, ln3008, ln3009, ln3010, ln3011, ln3012, ln3013, ln3014, ln3015, ln3016, ln3017, ln3018, ln3019, ln3020, ln3021, ln3022, ln3023, ln3024, ln3025, ln3026, ln3027, ln3028, ln3029, ln3030, ln3031, ln3032, ln3033, ln3034, ln3035, ln3036, ln3037, ln3038, ln3039, ck_t, nn_s, bn_d, ca_s, cv_s, oc_n, oc_s, cx_i, cx_r, cy_i, cy_r, gI_sI, gI_sP, gI_sA, gI_sR, gI_sJ, gI_nw, gI_nx, gP_sI, gP_sP, gP_sA, gP_sR, gP_sJ, gP_nw, gP_nx, gA_sI, gA_sP, gA_sA, gA_sR, gA_sJ, gA_nw, gA_nx, gR_sI, gR_sP, gR_sA, gR_sR, gR_sJ, gR_nw, gR_nx, Nat.reduceEqDiff, or_self, or_true, true_or, or_false, false_or, eq_self, and_self, and_true, true_and, and_false, false_and, if_true, if_false, ↓reduceIte, ne_eq, not_true_eq_false, not_false_eq_true, zl0, zl1, zl2, zl3, zl4, zl5, zl6, zl7, zl8, zl9, zl10, zl12, zl15, zl16, zl20, zl31, zl32, zl48, zl97, zl99, zl100, zl120, zl127, zl128, zl129, zl130, zl137, zl150, zl160, zl169, zl254, zl255, zl256, zl4000, zl65535, zl65536, if_pos, if_neg, zn_inb, zn_cl, zn_eq, zn_lt, zn_le, zn_add, zn_sub, zn_mul, zn_addn, zn_eqn, zn_neq, zn_nlt, zn_nle, zn_ckb, isB_b2i, b2z0, b2z1, b2it, b2if, k, R3.1.2.2.1]
      rw [E]
      obtain ⟨p1, p2, p3, p4, p5⟩ := P2
      refine ⟨h3, rfl, R3, ⟨?_, ?_, ?_, ?_, ?_⟩, K2.tr (Nat.le_refl _) (Nat.le_succ _) (Nat.le_refl _) K3, f1, f3, f4, by omega, le3.1, le3.2⟩
      · rw [K3.2.2.2.2.1 _ _ (by omega) (by omega) (by omega)]; exact p1
      · rw [K3.2.2.2.2.1 _ _ (by omega) (by omega) (by omega)]; exact p2
      · rw [K3.2.2.2.2.1 _ _ (by omega) (by omega) (by omega)]; exact p3
      · rw [K3.2.2.2.2.1 _ _ (by omega) (by omega) (by omega)]; exact p4
      · rw [K3.2.2.2.2.1 _ _ (by omega) (by omega) (by omega)]; exact p5
  · obtain ⟨h1, e1, B1⟩ := H2 C
    refine ⟨h1, e1, ?_⟩
    have : (if m < 100 then ent b x0 a e else none) = none := by
      by_cases hm : m < 100
      · rw [if_pos hm]
        unfold ent
        rw [if_neg (fun z => C ⟨hm, z.1, z.2⟩)]
      · rw [if_neg hm]
    rw [this]
    exact B1
theorem PtI.km {h h' : Hp} {i t as w : Nat} {of v : Int32} (p : PtI h i t of as v w) (K : KM fr m u h h') (hi : i < m) : PtI h' i t of as v w := by
  obtain ⟨p1, p2, p3, p4, p5⟩ := p
  refine ⟨?_, ?_, ?_, ?_, ?_⟩
  · rw [K.2.2.2.2.1 _ _ (by omega) (by omega) hi]; exact p1
  · rw [K.2.2.2.2.1 _ _ (by omega) (by omega) hi]; exact p2
  · rw [K.2.2.2.2.1 _ _ (by omega) (by omega) hi]; exact p3
  · rw [K.2.2.2.2.1 _ _ (by omega) (by omega) hi]; exact p4
  · rw [K.2.2.2.2.1 _ _ (by omega) (by omega) hi]; exact p5
/-- inside of a group: its part m0, its kids so far -/
def GQ (b : Nat → Nat) (τ : Tb) (n N : Nat) (h0 h : Hp) (t as : Nat) (of : Int32) (q fr m0 u0 a e1 e0 : Nat) (lo : Bool) {d : Nat} (l : List (Nat × Vt d)) : Prop :=
  MSrc h b n ∧ MT h τ N ∧ MR h a (fr + 1) (m0 + 1 + szs l) (u0 + ozs l) e1 ∧ (gA h 3031 fr = zI ↑m0 ∧ gA h 3035 fr = b2i lo) ∧ BE h fr e0 ∧ (e1 ≤ e0 ∧ e1 ≤ n) ∧
  PtI h m0 t of as (zI ↑l.length) u0 ∧ PVs (fun w j u as => PV h τ d w j u (zI ↑m0) as (kdT τ q 0 as)) l (m0 + 1) u0 ∧ KM fr m0 u0 h0 h
theorem GQ.km {h0 h h' : Hp} {t as q m0 u0 a e1 e0 d : Nat} {of : Int32} {lo : Bool} {l : List (Nat × Vt d)} (G : GQ b τ n N h0 h t as of q fr m0 u0 a e1 e0 lo l) (K : KM (fr + 1) (m0 + 1 + szs l) (u0 + ozs l) h h') (R : MR h' a (fr + 1) (m0 + 1 + szs l) (u0 + ozs l) e1) :
    GQ b τ n N h0 h' t as of q fr m0 u0 a e1 e0 lo l := by
  obtain ⟨g1, g2, g3, ⟨g4, g5⟩, g6, g7, g8, g9, g10⟩ := G
  have K0 : KM fr m0 u0 h h' := ⟨K.1, K.2.1, K.2.2.1, fun y i p q r => K.2.2.2.1 y i p q (by omega), fun y i p q r => K.2.2.2.2.1 y i p q (by omega), fun i q => K.2.2.2.2.2 i (by omega)⟩
  refine ⟨K.ms g1, K.mt g2, R, ⟨?_, ?_⟩, g6.km K0, g7, g8.km K (by omega), PVs.mono _ _ _ (fun p _ j' u' a1 a2 a3 a4 r => r.km K (by omega) (by omega)) g9, g10.tr (Nat.le_refl _) (Nat.le_refl _) (Nat.le_refl _) K0⟩
  · rw [K.2.2.2.1 _ _ (by omega) (by omega) (by omega)]; exact g4
  · rw [K.2.2.2.1 _ _ (by omega) (by omega) (by omega)]; exact g5
theorem MR.uw {h h' : Hp} {a : Nat} (R : MR h a fr m u e) (U : UW 0 h h') : MR h' a fr m u e := by
  obtain ⟨⟨r1, r2, r3, r4, r5⟩, r6, r7⟩ := R
  have J : ∀ g, ¬ g = 623 → ¬ g = 624 → gI h' g 3000 = gI h g 3000 := fun g q1 q2 => U.2.2.2.1 g 3000 (by omega)
  refine ⟨⟨(J _ (by decide) (by decide)).trans r1, (J _ (by decide) (by decide)).trans r2, (J _ (by decide) (by decide)).trans r3, (J _ (by decide) (by decide)).trans r4, (J _ (by decide) (by decide)).trans r5⟩, r6.km (KM.uw (m := 0) (u := 0) U), r7⟩
/-- the number of a group and the next place of its frame are set -/
theorem GQ.set {h0 h : Hp} {t as q m0 u0 a e1 e0 d : Nat} {of : Int32} {lo : Bool} {l : List (Nat × Vt d)} (G : GQ b τ n N h0 h t as of q fr m0 u0 a e1 e0 lo l) (x : Int32) (z : Nat) :
    MSrc (sA (sA h 3033 fr x) 3022 m0 (zI ↑z)) b n ∧ MT (sA (sA h 3033 fr x) 3022 m0 (zI ↑z)) τ N ∧ MR (sA (sA h 3033 fr x) 3022 m0 (zI ↑z)) a (fr + 1) (m0 + 1 + szs l) (u0 + ozs l) e1 ∧ KM fr m0 u0 h (sA (sA h 3033 fr x) 3022 m0 (zI ↑z)) := by
  obtain ⟨g1, g2, g3, ⟨g4, g5⟩, g6, g7, g8, g9, g10⟩ := G
  have K : KM fr m0 u0 h (sA (sA h 3033 fr x) 3022 m0 (zI ↑z)) := ((KM.rf _ _ _ _).sA (by decide) (fun _ _ => Nat.le_refl _) (fun _ _ => by omega) (fun _ => by omega)).sA (by decide) (fun _ _ => by omega) (fun _ _ => Nat.le_refl _) (fun _ => by omega)
  refine ⟨K.ms g1, K.mt g2, ⟨g3.1, ?_, g3.2.2⟩, K⟩
  have := g3.2.1
  unfold BE at this ⊢
  rw [if_neg (by omega)] at this ⊢
  rw [gA_sA, if_neg (by omega), gA_sA, if_neg (by omega)]
  exact this
/-- a kid was read -/
theorem GQ.kid {h0 h h' : Hp} {t as q m0 u0 a a1 e1 e0 d k : Nat} {of : Int32} {lo : Bool} {l : List (Nat × Vt d)} {v : Vt d} {x : Int32} (G : GQ b τ n N h0 h t as of q fr m0 u0 a e1 e0 lo l)
    (K : KM (fr + 1) (m0 + 1 + szs l) (u0 + ozs l) (sA (sA h 3033 fr x) 3022 m0 (zI ↑(l.length + 1))) h') (R : MR h' a1 (fr + 1) (m0 + 1 + szs l + sz d v) (u0 + ozs l + oz d v) e1) (P : PV h' τ d v (m0 + 1 + szs l) (u0 + ozs l) (zI ↑m0) k (kdT τ q 0 k)) :
    GQ b τ n N h0 h' t as of q fr m0 u0 a1 e1 e0 lo (l ++ [(k, v)]) ∧ gA h' 3033 fr = x := by
  obtain ⟨s1, s2, s3, K0⟩ := G.set x (l.length + 1)
  obtain ⟨g1, g2, g3, ⟨g4, g5⟩, g6, g7, g8, g9, g10⟩ := G
  have K1 : KM fr m0 u0 h h' := K0.tr (by omega) (by omega) (by omega) K
  have e1' : szs (l ++ [(k, v)]) = szs l + sz d v := by rw [szs_app, szs_cons, szs_nil, Nat.add_zero]
  have e2' : ozs (l ++ [(k, v)]) = ozs l + oz d v := by rw [ozs_app, ozs_cons, ozs_nil, Nat.add_zero]
  refine ⟨⟨K.ms s1, K.mt s2, ?_, ⟨?_, ?_⟩, g6.km K1, g7, ?_, ?_, g10.tr (Nat.le_refl _) (Nat.le_refl _) (Nat.le_refl _) K1⟩, ?_⟩
  · rw [e1', e2', ← Nat.add_assoc, ← Nat.add_assoc]; exact R
  · rw [K.2.2.2.1 _ _ (by omega) (by omega) (by omega), gA_sA, if_neg (by omega), gA_sA, if_neg (by omega)]; exact g4
  · rw [K.2.2.2.1 _ _ (by omega) (by omega) (by omega), gA_sA, if_neg (by omega), gA_sA, if_neg (by omega)]; exact g5
  · obtain ⟨p1, p2, p3, p4, p5⟩ := g8
    refine ⟨?_, ?_, ?_, ?_, ?_⟩
    · rw [K.2.2.2.2.1 _ _ (by omega) (by omega) (by omega), gA_sA, if_neg (by omega), gA_sA, if_neg (by omega)]; exact p1
    · rw [K.2.2.2.2.1 _ _ (by omega) (by omega) (by omega), gA_sA, if_neg (by omega), gA_sA, if_neg (by omega)]; exact p2
    · rw [K.2.2.2.2.1 _ _ (by omega) (by omega) (by omega), gA_sA, if_neg (by omega), gA_sA, if_neg (by omega)]; exact p3
    · rw [K.2.2.2.2.1 _ _ (by omega) (by omega) (by omega), gA_sA, if_pos ⟨rfl, rfl⟩]; simp
    · rw [K.2.2.2.2.1 _ _ (by omega) (by omega) (by omega), gA_sA, if_neg (by omega), gA_sA, if_neg (by omega)]; exact p5
  · refine PVs.app (k, v) l (m0 + 1) u0 (PVs.mono _ _ _ (fun p _ j' u' a1 a2 a3 a4 r => ?_) g9) P
    have r2 : PV (sA (sA h 3033 fr x) 3022 m0 (zI ↑(l.length + 1))) τ d p.2 j' u' (zI ↑m0) p.1 (kdT τ q 0 p.1) := by
      cases d with
      | zero => exact r.elim
      | succ d =>
        have frm : ∀ y i, 3021 ≤ y → y ≤ 3025 → m0 < i → gA (sA (sA h 3033 fr x) 3022 m0 (zI ↑(l.length + 1))) y i = gA h y i := fun y i _ _ hi => by rw [gA_sA, if_neg (by omega), gA_sA, if_neg (by omega)]
        exact r.fr2 (lo := m0 + 1) (fun y i p q r => frm y i p q (by omega)) (fun i => by rw [gA_sA, if_neg (by omega), gA_sA, if_neg (by omega)]) a1
    exact r2.km K (by omega) (by omega)
  · rw [K.2.2.2.1 _ _ (by omega) (by omega) (by omega), gA_sA, if_neg (by omega), gA_sA, if_pos ⟨rfl, rfl⟩]
end Gm
