/-! THE MODEL SETTLES: how many parts each has with all below it -/
set_option maxRecDepth 100000
/-- the sizes of all parts of a value from i on -/
def BW (h : Hp) : (d : Nat) → Vt d → Nat → Prop
  | 0, _, _ => False
  | d + 1, v, i => gA h 3026 i = zI ↑(sz (d + 1) v) ∧ PVs (fun w j _ _ => BW h d w j) (vK v) (i + 1) 0
theorem PVs.mono2 {d : Nat} {R R' : Vt d → Nat → Nat → Nat → Prop} : ∀ (l : List (Nat × Vt d)) (j u u' : Nat), (∀ q ∈ l, ∀ j' v v', j ≤ j' → j' + sz d q.2 ≤ j + szs l → R q.2 j' v q.1 → R' q.2 j' v' q.1) → PVs R l j u → PVs R' l j u' := by
  intro l
  induction l with
  | nil => intro j u u' _ _; trivial
  | cons q l ih =>
    intro j u u' hR p
    rw [szs_cons] at hR
    exact ⟨hR q (List.mem_cons_self) j u u' (Nat.le_refl _) (by omega) p.1, ih _ _ _ (fun x hx j' v v' a1 a2 => hR x (List.mem_cons_of_mem _ hx) j' v v' (by omega) (by omega)) p.2⟩
theorem BW.fr {h h' : Hp} {lo hi : Nat} (e : ∀ i, lo ≤ i → i < hi → gA h' 3026 i = gA h 3026 i) : ∀ {d : Nat} {v : Vt d} {i : Nat}, BW h d v i → lo ≤ i → i + sz d v ≤ hi → BW h' d v i := by
  intro d
  induction d with
  | zero => intro v i p; exact p.elim
  | succ d ih =>
    intro v i p h1 h2
    rw [sz_s] at h2
    obtain ⟨p1, p2⟩ := p
    exact ⟨(e _ h1 (by omega)).trans p1, PVs.mono2 _ _ _ _ (fun q _ j' _ _ a1 a2 r => ih r (by omega) (by omega)) p2⟩
/-- only sizes of lo .. hi - 1 have changed -/
def SB (lo hi : Nat) (h h' : Hp) : Prop := (gP h' = gP h ∧ gL h' = gL h ∧ gR h' = gR h ∧ gI h' = gI h) ∧ ∀ y i, ¬ (y = 3026 ∧ lo ≤ i ∧ i < hi) → gA h' y i = gA h y i
theorem SB.rf (lo hi : Nat) (h : Hp) : SB lo hi h h := ⟨⟨rfl, rfl, rfl, rfl⟩, fun _ _ _ => rfl⟩
theorem SB.tr {lo1 hi1 lo2 hi2 lo hi : Nat} {h1 h2 h3 : Hp} (a : SB lo1 hi1 h1 h2) (b : SB lo2 hi2 h2 h3) (l1 : lo ≤ lo1) (l2 : hi1 ≤ hi) (l3 : lo ≤ lo2) (l4 : hi2 ≤ hi) : SB lo hi h1 h3 :=
  ⟨⟨b.1.1.trans a.1.1, b.1.2.1.trans a.1.2.1, b.1.2.2.1.trans a.1.2.2.1, b.1.2.2.2.trans a.1.2.2.2⟩, fun y i q => (b.2 y i (by omega)).trans (a.2 y i (by omega))⟩
theorem SB.mp {lo hi : Nat} {h h' : Hp} (s : SB lo hi h h') (M : MP h) : MP h' := by
  unfold MP at M ⊢
  rw [s.1.1, s.1.2.1]; exact M
theorem SB.pv {lo hi : Nat} {h h' : Hp} (s : SB lo hi h h') {τ : Tb} {d : Nat} {v : Vt d} {i u : Nat} {of : Int32} {as t : Nat} (p : PV h τ d v i u of as t) : PV h' τ d v i u of as t :=
  p.fr2 (lo := 0) (fun y i _ _ _ => s.2 y i (by omega)) (fun i => s.2 _ i (by omega)) (Nat.zero_le _)
section Se
variable {F dd M0 : Nat} {τ : Tb}
/-- the loop over the kids of a part -/
theorem set15 {h : Hp} {i : Nat} {K : Nat → Int32 → Hp → Option Hp} {d : Nat} {T : Nat → Nat} (M : MP h) (hM : gI h 634 3000 = zI ↑M0) (hM1 : M0 ≤ 100) (hi : i < M0) :
    ∀ (l : List (Nat × Vt d)) (j u nf : Nat), PVs (fun w j u as => PV h τ d w j u (zI ↑i) as (T as)) l j u → PVs (fun w j _ _ => BW h d w j) l j 0 → j + szs l ≤ M0 → (j + szs l = M0 ∨ ∃ y, y < i ∧ gA h 3024 (j + szs l) = zI ↑y) → l.length < nf →
    fX6_settle_15 F dd K nf 3000 (zI ↑i) (zI ↑j) h = fX6_settle_45 F dd K 3000 (zI ↑i) (zI ↑(j + szs l)) h := by
  intro l
  induction l with
  | nil =>
    intro j u nf p q h1 h2 hn
    obtain ⟨f, rfl⟩ : ∃ f, nf = f + 1 := ⟨nf - 1, by omega⟩
    rw [szs_nil, Nat.add_zero] at h1 h2 ⊢
    rw [fX6_settle_15]
    rcases h2 with h2 | ⟨y, y1, y2⟩
    · simp (disch := omega) only [mp607, mp608, mp609, mp611, mp612, mp613, mp614, mp615, mp616, mp617, mp618, mp619, mp620, mp621, mp622, mp625, mp626, mp631, mp632, mp633, mp636, mp637, mp638, mp639, mp640, mp641, mp642, mp643, mp645, mp646, mp650, mp651, mp652, mp653, mp654, mp655, mp656, mp657, mp658, ln3001, ln3002, ln3003, ln3004, ln3005, ln3006, ln3007, ln3008, ln3009, ln3010, ln3011, ln3012, ln3013, ln3014, ln3015, ln3016, ln3017, ln3018, ln3019, ln3020, ln3021, ln3022, ln3023, ln3024, ln3025, ln3026, ln3027, ln3028, ln3029, ln3030, ln3031, ln3032, ln3033, ln3034, ln3035, ln3036, ln3037, ln3038, ln3039, ck_t, nn_s, bn_d, ca_s, cv_s, oc_n, oc_s, cx_i, cx_r, cy_i, cy_r, gI_sI, gI_sP, gI_sA, gI_sR, gI_sJ, gI_nw, gI_nx, gP_sI, gP_sP, gP_sA, gP_sR, gP_sJ, gP_nw, gP_nx, gA_sI, gA_sP, gA_sA, gA_sR, gA_sJ, gA_nw, gA_nx, gR_sI, gR_sP, gR_sA, gR_sR, gR_sJ, gR_nw, gR_nx, reduceCtorEq, Nat.reduceEqDiff, or_self, or_true, true_or, or_false, false_or, eq_self, and_self, and_true, true_and, and_false, false_and, if_true, if_false, ↓reduceIte, ne_eq, not_true_eq_false, not_false_eq_true, zl0, zl1, zl2, zl3, zl4, zl5, zl6, zl7, zl8, zl9, zl10, zl12, zl15, zl16, zl20, zl31, zl32, zl48, zl97, zl99, zl100, zl120, zl127, zl128, zl129, zl130, zl137, zl150, zl160, zl169, zl254, zl255, zl256, zl4000, zl65535, zl65536, if_pos, if_neg, zn_inb, zn_cl, zn_eq, zn_lt, zn_le, zn_add, zn_sub, zn_mul, zn_addn, zn_eqn, zn_neq, zn_nlt, zn_nle, zn_ckb, isB_b2i, b2z0, b2z1, b2it, b2if, hM, Nat.add_zero]
    · by_cases c : j = M0
      · simp (disch := omega) only [mp607, mp608, mp609, mp611, mp612, mp613, mp614, mp615, mp616, mp617, mp618, mp619, mp620, mp621, mp622, mp625, mp626, mp631, mp632, mp633, mp636, mp637, mp638, mp639, mp640, mp641, mp642, mp643, mp645, mp646, mp650, mp651, mp652, mp653, mp654, mp655, mp656, mp657, mp658, ln3001, ln3002, ln3003, ln3004, ln3005, ln3006, ln3007, ln3008, ln3009, ln3010, ln3011, ln3012, ln3013, ln3014, ln3015, ln3016, ln3017, ln3018, ln3019, ln3020, ln3021, ln3022, ln3023, ln3024, ln3025, ln3026, ln3027, ln3028, ln3029, ln3030, ln3031, ln3032, ln3033, ln3034, ln3035, ln3036, ln3037, ln3038, ln3039, ck_t, nn_s, bn_d, ca_s, cv_s, oc_n, oc_s, cx_i, cx_r, cy_i, cy_r, gI_sI, gI_sP, gI_sA, gI_sR, gI_sJ, gI_nw, gI_nx, gP_sI, gP_sP, gP_sA, gP_sR, gP_sJ, gP_nw, gP_nx, gA_sI, gA_sP, gA_sA, gA_sR, gA_sJ, gA_nw, gA_nx, gR_sI, gR_sP, gR_sA, gR_sR, gR_sJ, gR_nw, gR_nx, reduceCtorEq, Nat.reduceEqDiff, or_self, or_true, true_or, or_false, false_or, eq_self, and_self, and_true, true_and, and_false, false_and, if_true, if_false, ↓reduceIte, ne_eq, not_true_eq_false, not_false_eq_true, zl0, zl1, zl2, zl3, zl4, zl5, zl6, zl7, zl8, zl9, zl10, zl12, zl15, zl16, zl20, zl31, zl32, zl48, zl97, zl99, zl100, zl120, zl127, zl128, zl129, zl130, zl137, zl150, zl160, zl169, zl254, zl255, zl256, zl4000, zl65535, zl65536, if_pos, if_neg, zn_inb, zn_cl, zn_eq, zn_lt, zn_le, zn_add, zn_sub, zn_mul, zn_addn, zn_eqn, zn_neq, zn_nlt, zn_nle, zn_ckb, isB_b2i, b2z0, b2z1, b2it, b2if, hM, Nat.add_zero]
      · simp (disch := omega) only [mp607, mp608, mp609, mp611, mp612, mp613, mp614, mp615, mp616, mp617, mp618, mp619, mp620, mp621, mp622, mp625, mp626, mp631, mp632, mp633, mp636, mp637, mp638, mp639, mp640, mp641, mp642, mp643, mp645, mp646, mp650, mp651, mp652, mp653, mp654, mp655, mp656, mp657, mp658, ln3001, ln3002, ln3003, ln3004, ln3005, ln3006, ln3007, ln3008, ln3009, ln3010, ln3011, ln3012, ln3013, ln3014, ln3015, ln3016, ln3017, ln3018, ln3019, ln3020, ln3021, ln3022, ln3023, ln3024, ln3025, ln3026, ln3027, ln3028, ln3029, ln3030, ln3031, ln3032, ln3033, ln3034, ln3035, ln3036, ln3037, ln3038, ln3039, ck_t, nn_s, bn_d, ca_s, cv_s, oc_n, oc_s, cx_i, cx_r, cy_i, cy_r, gI_sI, gI_sP, gI_sA, gI_sR, gI_sJ, gI_nw, gI_nx, gP_sI, gP_sP, gP_sA, gP_sR, gP_sJ, gP_nw, gP_nx, gA_sI, gA_sP, gA_sA, gA_sR, gA_sJ, gA_nw, gA_nx, gR_sI, gR_sP, gR_sA, gR_sR, gR_sJ, gR_nw, gR_nx, reduceCtorEq, Nat.reduceEqDiff, or_self, or_true, true_or, or_false, false_or, eq_self, and_self, and_true, true_and, and_false, false_and, if_true, if_false, ↓reduceIte, ne_eq, not_true_eq_false, not_false_eq_true, zl0, zl1, zl2, zl3, zl4, zl5, zl6, zl7, zl8, zl9, zl10, zl12, zl15, zl16, zl20, zl31, zl32, zl48, zl97, zl99, zl100, zl120, zl127, zl128, zl129, zl130, zl137, zl150, zl160, zl169, zl254, zl255, zl256, zl4000, zl65535, zl65536, if_pos, if_neg, zn_inb, zn_cl, zn_eq, zn_lt, zn_le, zn_add, zn_sub, zn_mul, zn_addn, zn_eqn, zn_neq, zn_nlt, zn_nle, zn_ckb, isB_b2i, b2z0, b2z1, b2it, b2if, M.2, hM, y2, Nat.add_zero]
  | cons x l ih =>
    intro j u nf p q h1 h2 hn
    obtain ⟨f, rfl⟩ : ∃ f, nf = f + 1 := ⟨nf - 1, by omega⟩
    rw [List.length_cons] at hn
    rw [szs_cons, ← Nat.add_assoc] at h1 h2
    rw [szs_cons, ← Nat.add_assoc]
    have sp : 1 ≤ sz d x.2 ∧ gA h 3024 j = zI ↑i ∧ gA h 3026 j = zI ↑(sz d x.2) := by
      cases d with
      | zero => exact p.1.elim
      | succ d => exact ⟨by rw [sz_s]; omega, p.1.1.2.1, q.1.1⟩
    rw [fX6_settle_15]
    simp (disch := omega) only [mp607, mp608, mp609, mp611, mp612, mp613, mp614, mp615, mp616, mp617, mp618, mp619, mp620, mp621, mp622, mp625, mp626, mp631, mp632, mp633, mp636, mp637, mp638, mp639, mp640, mp641, mp642, mp643, mp645, mp646, mp650, mp651, mp652, mp653, mp654, mp655, mp656, mp657, mp658, ln3001, ln3002, ln3003, ln3004, ln3005, ln3006, ln3007, ln3008, ln3009, ln3010, ln3011, ln3012, ln3013, ln3014, ln3015, ln3016, ln3017, ln3018, ln3019, ln3020, ln3021, ln3022, ln3023, ln3024, ln3025, ln3026, ln3027, ln3028, ln3029, ln3030, ln3031, ln3032, ln3033, ln3034, ln3035, ln3036, ln3037, ln3038, ln3039, ck_t, nn_s, bn_d, ca_s, cv_s, oc_n, oc_s, cx_i, cx_r, cy_i, cy_r, gI_sI, gI_sP, gI_sA, gI_sR, gI_sJ, gI_nw, gI_nx, gP_sI, gP_sP, gP_sA, gP_sR, gP_sJ, gP_nw, gP_nx, gA_sI, gA_sP, gA_sA, gA_sR, gA_sJ, gA_nw, gA_nx, gR_sI, gR_sP, gR_sA, gR_sR, gR_sJ, gR_nw, gR_nx, reduceCtorEq, Nat.reduceEqDiff, or_self, or_true, true_or, or_false, false_or, eq_self, and_self, and_true, true_and, and_false, false_and, if_true, if_false, ↓reduceIte, ne_eq, not_true_eq_false, not_false_eq_true, zl0, zl1, zl2, zl3, zl4, zl5, zl6, zl7, zl8, zl9, zl10, zl12, zl15, zl16, zl20, zl31, zl32, zl48, zl97, zl99, zl100, zl120, zl127, zl128, zl129, zl130, zl137, zl150, zl160, zl169, zl254, zl255, zl256, zl4000, zl65535, zl65536, if_pos, if_neg, zn_inb, zn_cl, zn_eq, zn_lt, zn_le, zn_add, zn_sub, zn_mul, zn_addn, zn_eqn, zn_neq, zn_nlt, zn_nle, zn_ckb, isB_b2i, b2z0, b2z1, b2it, b2if, M.2, hM, sp.2.1, sp.2.2]
    exact ih _ _ f p.2 (PVs.mono2 _ _ _ _ (fun _ _ _ _ _ _ _ r => r) q.2) h1 h2 (by omega)
/-- settling the parts of a value -/
theorem set_ok (hM1 : M0 ≤ 100) (hF : 1000 ≤ F) : ∀ (d : Nat) (v : Vt d) (i u : Nat) (of : Int32) (as t nf : Nat) (h : Hp), MP h → gI h 634 3000 = zI ↑M0 → PV h τ d v i u of as t → i + sz d v ≤ M0 → (i + sz d v = M0 ∨ ∃ y, y < i ∧ gA h 3024 (i + sz d v) = zI ↑y) →
    ∃ h', fX6_settle_7 F dd (nf + sz d v) 3000 (zI (i + sz d v - 1 : Int)) h = fX6_settle_7 F dd nf 3000 (zI (i - 1 : Int)) h' ∧ BW h' d v i ∧ SB i (i + sz d v) h h' := by
  intro d
  induction d with
  | zero => intro v i u of as t nf h M hM p; exact p.elim
  | succ d ih =>
    intro v i u of as t nf h M hM p hi hc
    have kids : ∀ (l : List (Nat × Vt d)) (j u nf : Nat) (h : Hp) (T : Nat → Nat), i < j → MP h → gI h 634 3000 = zI ↑M0 → PVs (fun w j u as => PV h τ d w j u (zI ↑i) as (T as)) l j u → j + szs l ≤ M0 → (j + szs l = M0 ∨ ∃ y, y < j ∧ gA h 3024 (j + szs l) = zI ↑y) →
        ∃ h', fX6_settle_7 F dd (nf + szs l) 3000 (zI (j + szs l - 1 : Int)) h = fX6_settle_7 F dd nf 3000 (zI (j - 1 : Int)) h' ∧ PVs (fun w j _ _ => BW h' d w j) l j 0 ∧ SB j (j + szs l) h h' := by
      intro l
      induction l with
      | nil =>
        intro j u nf h T hij M hM p h1 h2
        rw [szs_nil]
        exact ⟨h, by simp, trivial, SB.rf _ _ _⟩
      | cons x l ihl =>
        intro j u nf h T hij M hM p h1 h2
        rw [szs_cons] at h1 h2 ⊢
        have sp : 1 ≤ sz d x.2 := by
          cases d with
          | zero => exact p.1.elim
          | succ d => rw [sz_s]; omega
        obtain ⟨h1', e1, q1, s1⟩ := ihl (j + sz d x.2) _ (nf + sz d x.2) h T (by omega) M hM p.2 (by omega) (by
          rcases h2 with h2 | ⟨y, y1, y2⟩
          · left; omega
          · right; exact ⟨y, by omega, by rw [Nat.add_assoc]; exact y2⟩)
        have hc2 : j + sz d x.2 = M0 ∨ ∃ y, y < j ∧ gA h1' 3024 (j + sz d x.2) = zI ↑y := by
          cases l with
          | nil =>
            rw [szs_nil, Nat.add_zero] at h2
            rcases h2 with h2 | ⟨y, y1, y2⟩
            · left; omega
            · right; exact ⟨y, y1, by rw [s1.2 _ _ (by omega)]; exact y2⟩
          | cons x2 l =>
            right
            refine ⟨i, hij, ?_⟩
            rw [s1.2 _ _ (by omega)]
            cases d with
            | zero => exact p.1.elim
            | succ d => exact p.2.1.1.2.1
        obtain ⟨h2', e2, q2, s2⟩ := ih x.2 j u _ _ _ nf h1' (s1.mp M) (by rw [s1.1.2.2.2]; exact hM) (s1.pv p.1) (by omega) hc2
        refine ⟨h2', ?_, ⟨q2, ?_⟩, s1.tr s2 (by omega) (by omega) (by omega) (by omega)⟩
        · rw [show nf + (sz d x.2 + szs l) = nf + sz d x.2 + szs l by omega, show ((j : Int) + ↑(sz d x.2 + szs l) - 1) = (↑(j + sz d x.2) + ↑(szs l) - 1) by omega, e1, show ((↑(j + sz d x.2) : Int) - 1) = (j + sz d x.2 - 1) by omega, e2]
        · exact PVs.mono2 _ _ _ _ (fun q _ j' _ _ a1 a2 r => r.fr (lo := j + sz d x.2) (hi := j + sz d x.2 + szs l) (fun i z1 z2 => s2.2 _ i (by omega)) a1 a2) q1
    have p0 := p
    obtain ⟨p1, p2, p3⟩ := p
    have sv := sz_s v
    obtain ⟨h1, e1, q1, s1⟩ := kids (vK v) (i + 1) _ (nf + 1) h _ (by omega) M hM p3 (by omega) (by
      rcases hc with hc | ⟨y, y1, y2⟩
      · left; omega
      · right; exact ⟨y, by omega, by rw [show i + 1 + szs (vK v) = i + sz (d + 1) v by omega]; exact y2⟩)
    have M1 := s1.mp M
    have hM' : gI h1 634 3000 = zI ↑M0 := by rw [s1.1.2.2.2]; exact hM
    have len : (vK v).length ≤ szs (vK v) := by
      have hp : ∀ (l : List (Nat × Vt d)) (j u : Nat), PVs (fun w j u as => PV h τ d w j u (zI ↑i) as (kdT τ (vT v) (vN v) as)) l j u → l.length ≤ szs l := by
        intro l
        induction l with
        | nil => intro j u _; simp
        | cons x l ihl =>
          intro j u p
          have := ihl _ _ p.2
          have : 1 ≤ sz d x.2 := by
            cases d with
            | zero => exact p.1.elim
            | succ d => rw [sz_s]; omega
          rw [List.length_cons, szs_cons]; omega
      exact hp _ _ _ p3
    have s15 := set15 (F := F) (dd := dd) (h := h1) (i := i) (K := fX6_settle_7 F dd nf) (τ := τ) M1 hM' hM1 (by omega) (vK v) (i + 1) _ F (PVs.mono _ _ _ (fun q _ j' u' _ _ _ _ r => s1.pv r) p3) q1 (by omega) (by
      rcases hc with hc | ⟨y, y1, y2⟩
      · left; omega
      · right; exact ⟨y, y1, by rw [s1.2 _ _ (by omega), show i + 1 + szs (vK v) = i + sz (d + 1) v by omega]; exact y2⟩) (by omega)
    refine ⟨sA h1 3026 i (zI ↑(sz (d + 1) v)), ?_, ⟨by rw [gA_sA, if_pos ⟨rfl, rfl⟩], PVs.mono2 _ _ _ _ (fun q _ j' _ _ a1 a2 r => r.fr (lo := i + 1) (hi := i + 1 + szs (vK v)) (fun x z1 z2 => by rw [gA_sA, if_neg (by omega)]) a1 a2) q1⟩, ?_⟩
    · rw [show nf + sz (d + 1) v = nf + 1 + szs (vK v) by omega, show ((i : Int) + ↑(sz (d + 1) v) - 1) = (↑(i + 1) + ↑(szs (vK v)) - 1) by omega, e1, show ((↑(i + 1) : Int) - 1) = ↑i by omega, fX6_settle_7, if_neg (zn_nn i (by omega)), bn_d, zn_succ, s15]
      unfold fX6_settle_45
      have em : zI ↑i + (-1) = zI (i - 1 : Int) := by rw [show (-1 : Int32) = zI (-1) from rfl, zI_add]; rfl
      rw [M1.2, mp641, nn_s, ln3026, zn_inb (show i < 100 by omega) (by omega), ck_t, bn_d, bn_d, em, zn_sub (by omega), zn_cl (by omega), show i + 1 + szs (vK v) - i = sz (d + 1) v by omega]
    · exact s1.tr (lo2 := i) (hi2 := i + 1) ⟨⟨rfl, rfl, rfl, rfl⟩, fun y x z => by rw [gA_sA, if_neg (by omega)]⟩ (by omega) (by omega) (by omega) (by omega)
theorem settle_ok {h : Hp} {d : Nat} {v : Vt d} {u as t : Nat} {of : Int32} (M : MP h) (hM : gI h 634 3000 = zI ↑(sz d v)) (p : PV h τ d v 0 u of as t) (hs : sz d v ≤ 100) (hF : 1000 ≤ F) :
    ∃ h', fX6_settle F dd 3000 h = some h' ∧ BW h' d v 0 ∧ SB 0 (sz d v) h h' := by
  unfold fX6_settle
  obtain ⟨h', e1, b1, s1⟩ := set_ok (F := F) (dd := dd) (M0 := sz d v) hs hF d v 0 u of as t (F - sz d v) h M hM p (by omega) (Or.inl (by omega))
  rw [show F - sz d v + sz d v = F by omega] at e1
  rw [hM, bn_d, show zI ↑(sz d v) - 1 = zI ((0 : Nat) + sz d v - 1 : Int) from by rw [zl1, zI_sub]; congr 1; omega, e1]
  obtain ⟨f, hf⟩ : ∃ f, F - sz d v = f + 1 := ⟨F - sz d v - 1, by omega⟩
  rw [hf, fX6_settle_7, if_pos (by decide)]
  exact ⟨h', rfl, b1, by rw [Nat.zero_add] at s1; exact s1⟩
end Se
