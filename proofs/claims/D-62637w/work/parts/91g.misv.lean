/-! THE MODEL: is it a value (BER, DER) -/
set_option maxRecDepth 100000
section Iv
variable {F dd N n : Nat} {τ : Tb} {b : Nat → Nat} {W : List Nat}
/-- only what says whether it is good has changed -/
def GD (h h' : Hp) : Prop := (gP h' = gP h ∧ gL h' = gL h ∧ gR h' = gR h ∧ gA h' = gA h) ∧ ∀ g y, ¬ (y = 3000 ∧ g = 649) → gI h' g y = gI h g y
theorem GD.rf (h : Hp) : GD h h := ⟨⟨rfl, rfl, rfl, rfl⟩, fun _ _ _ => rfl⟩
theorem GD.sI (h : Hp) (v : Int32) : GD h (sI h 649 3000 v) := ⟨⟨rfl, rfl, rfl, rfl⟩, fun g y q => by rw [gI_sI, if_neg (by omega)]⟩
theorem GD.tr {h1 h2 h3 : Hp} (a : GD h1 h2) (c : GD h2 h3) : GD h1 h3 :=
  ⟨⟨c.1.1.trans a.1.1, c.1.2.1.trans a.1.2.1, c.1.2.2.1.trans a.1.2.2.1, c.1.2.2.2.trans a.1.2.2.2⟩, fun g y q => (c.2 g y q).trans (a.2 g y q)⟩
/-- the bytes are those of the source from x on -/
def sam (b : Nat → Nat) : List Nat → Nat → Bool
  | [], _ => true
  | y :: L, x => y == b x && sam b L (x + 1)
theorem cmp_ok (hW : ∀ x ∈ W, x < 256) (hn : W.length = n) (hn2 : n ≤ 120) : ∀ (L : List Nat) (x nf : Nat) (h : Hp), L = W.drop x → x ≤ n → n - x < nf → MP h → (∀ i, i < n → gA h 3019 i = zI ↑(b i) ∧ b i < 256) → gI h 629 3000 = zI ↑n → (∀ (k y : Nat), W[k]? = some y → gA h 3020 k = zI ↑y) → gI h 649 3000 = zI ↑(1 : Nat) →
    ∃ h', fX6_isValue_158 F dd nf 3000 (zI ↑x) h = some (b2i (sam b L x), h') ∧ GD h h' := by
  intro L
  induction L with
  | nil =>
    intro x nf h hL hx hf M S e B g
    obtain ⟨f, rfl⟩ : ∃ f, nf = f + 1 := ⟨nf - 1, by omega⟩
    have hx2 : W.length ≤ x := List.drop_eq_nil_iff.mp hL.symm
    refine ⟨h, ?_, GD.rf h⟩
    rw [fX6_isValue_158]
    simp (disch := omega) only [mp607, mp608, mp609, mp611, mp612, mp613, mp614, mp615, mp616, mp617, mp618, mp619, mp620, mp621, mp622, mp625, mp626, mp631, mp632, mp633, mp636, mp637, mp638, mp639, mp640, mp641, mp642, mp643, mp645, mp646, mp650, mp651, mp652, mp653, mp654, mp655, mp656, mp657, mp658, ln3001, ln3002, ln3003, ln3004, ln3005, ln3006, ln3007, ln3008, ln3009, ln3010, ln3011, ln3012, ln3013, ln3014, ln3015, ln3016, ln3017, ln3018, ln3019, ln3020, ln3021, ln3022, ln3023, ln3024, ln3025, ln3026, ln3027, ln3028, ln3029, ln3030, ln3031, ln3032, ln3033, ln3034, ln3035, ln3036, ln3037, ln3038, ln3039, ck_t, nn_s, bn_d, ca_s, cv_s, oc_n, oc_s, cx_i, cx_r, cy_i, cy_r, gI_sI, gI_sP, gI_sA, gI_sR, gI_sJ, gI_nw, gI_nx, gP_sI, gP_sP, gP_sA, gP_sR, gP_sJ, gP_nw, gP_nx, gA_sI, gA_sP, gA_sA, gA_sR, gA_sJ, gA_nw, gA_nx, gR_sI, gR_sP, gR_sA, gR_sR, gR_sJ, gR_nw, gR_nx, reduceCtorEq, Nat.reduceEqDiff, or_self, or_true, true_or, or_false, false_or, eq_self, and_self, and_true, true_and, and_false, false_and, if_true, if_false, ↓reduceIte, ne_eq, not_true_eq_false, not_false_eq_true, zl0, zl1, zl2, zl3, zl4, zl5, zl6, zl7, zl8, zl9, zl10, zl12, zl15, zl16, zl20, zl31, zl32, zl48, zl97, zl99, zl100, zl120, zl127, zl128, zl129, zl130, zl137, zl150, zl160, zl169, zl254, zl255, zl256, zl4000, zl65535, zl65536, if_pos, if_neg, zn_inb, zn_cl, zn_eq, zn_lt, zn_le, zn_add, zn_sub, zn_mul, zn_addn, zn_eqn, zn_neq, zn_nlt, zn_nle, zn_ckb, isB_b2i, b2z0, b2z1, b2it, b2if, M.2, e, g]
    rfl
  | cons y L ih =>
    intro x nf h hL hx hf M S e B g
    obtain ⟨f, rfl⟩ : ∃ f, nf = f + 1 := ⟨nf - 1, by omega⟩
    have hx2 : x < W.length := by
      have : (W.drop x).length = L.length + 1 := by rw [← hL]; rfl
      rw [List.length_drop] at this; omega
    have hy : W[x]? = some y := by
      have : (W.drop x)[0]? = some y := by rw [← hL]; rfl
      rw [List.getElem?_drop] at this; exact this
    have hL2 : L = W.drop (x + 1) := by
      have : (W.drop x).drop 1 = L := by rw [← hL]; rfl
      rw [List.drop_drop] at this; exact this.symm
    have by1 := B x y hy
    have y256 := hW y (List.mem_of_getElem? hy)
    obtain ⟨s1, s2⟩ := S x (by omega)
    by_cases c : y = b x
    · obtain ⟨h', e1, G⟩ := ih (x + 1) f (sI h 649 3000 (zI ↑(1 : Nat))) hL2 (by omega) (by omega) M S (by rw [gI_sI, if_neg (by omega)]; exact e) B (by rw [gI_sI, if_pos ⟨rfl, rfl⟩])
      refine ⟨h', ?_, (GD.sI h _).tr G⟩
      have : sam b (y :: L) x = sam b L (x + 1) := by show (y == b x && sam b L (x + 1)) = _; rw [c, beq_self_eq_true, Bool.true_and]
      rw [this, ← e1, fX6_isValue_158]
      rw [c] at by1
      unfold fX6_isValue_194
      simp (disch := omega) only [mp607, mp608, mp609, mp611, mp612, mp613, mp614, mp615, mp616, mp617, mp618, mp619, mp620, mp621, mp622, mp625, mp626, mp631, mp632, mp633, mp636, mp637, mp638, mp639, mp640, mp641, mp642, mp643, mp645, mp646, mp650, mp651, mp652, mp653, mp654, mp655, mp656, mp657, mp658, ln3001, ln3002, ln3003, ln3004, ln3005, ln3006, ln3007, ln3008, ln3009, ln3010, ln3011, ln3012, ln3013, ln3014, ln3015, ln3016, ln3017, ln3018, ln3019, ln3020, ln3021, ln3022, ln3023, ln3024, ln3025, ln3026, ln3027, ln3028, ln3029, ln3030, ln3031, ln3032, ln3033, ln3034, ln3035, ln3036, ln3037, ln3038, ln3039, ck_t, nn_s, bn_d, ca_s, cv_s, oc_n, oc_s, cx_i, cx_r, cy_i, cy_r, gI_sI, gI_sP, gI_sA, gI_sR, gI_sJ, gI_nw, gI_nx, gP_sI, gP_sP, gP_sA, gP_sR, gP_sJ, gP_nw, gP_nx, gA_sI, gA_sP, gA_sA, gA_sR, gA_sJ, gA_nw, gA_nx, gR_sI, gR_sP, gR_sA, gR_sR, gR_sJ, gR_nw, gR_nx, reduceCtorEq, Nat.reduceEqDiff, or_self, or_true, true_or, or_false, false_or, eq_self, and_self, and_true, true_and, and_false, false_and, if_true, if_false, ↓reduceIte, ne_eq, not_true_eq_false, not_false_eq_true, zl0, zl1, zl2, zl3, zl4, zl5, zl6, zl7, zl8, zl9, zl10, zl12, zl15, zl16, zl20, zl31, zl32, zl48, zl97, zl99, zl100, zl120, zl127, zl128, zl129, zl130, zl137, zl150, zl160, zl169, zl254, zl255, zl256, zl4000, zl65535, zl65536, if_pos, if_neg, zn_inb, zn_cl, zn_eq, zn_lt, zn_le, zn_add, zn_sub, zn_mul, zn_addn, zn_eqn, zn_neq, zn_nlt, zn_nle, zn_ckb, isB_b2i, b2z0, b2z1, b2it, b2if, M.2, e, g, by1, s1]
    · refine ⟨sI h 649 3000 (zI ↑(0 : Nat)), ?_, GD.sI h _⟩
      have : sam b (y :: L) x = false := by show (y == b x && sam b L (x + 1)) = _; rw [beq_false_of_ne c, Bool.false_and]
      obtain ⟨f2, rfl⟩ : ∃ f2, f = f2 + 1 := ⟨f - 1, by omega⟩
      rw [this, fX6_isValue_158]
      unfold fX6_isValue_194
      by_cases c2 : n ≤ x + 1
      · simp (disch := omega) only [mp607, mp608, mp609, mp611, mp612, mp613, mp614, mp615, mp616, mp617, mp618, mp619, mp620, mp621, mp622, mp625, mp626, mp631, mp632, mp633, mp636, mp637, mp638, mp639, mp640, mp641, mp642, mp643, mp645, mp646, mp650, mp651, mp652, mp653, mp654, mp655, mp656, mp657, mp658, ln3001, ln3002, ln3003, ln3004, ln3005, ln3006, ln3007, ln3008, ln3009, ln3010, ln3011, ln3012, ln3013, ln3014, ln3015, ln3016, ln3017, ln3018, ln3019, ln3020, ln3021, ln3022, ln3023, ln3024, ln3025, ln3026, ln3027, ln3028, ln3029, ln3030, ln3031, ln3032, ln3033, ln3034, ln3035, ln3036, ln3037, ln3038, ln3039, ck_t, nn_s, bn_d, ca_s, cv_s, oc_n, oc_s, cx_i, cx_r, cy_i, cy_r, gI_sI, gI_sP, gI_sA, gI_sR, gI_sJ, gI_nw, gI_nx, gP_sI, gP_sP, gP_sA, gP_sR, gP_sJ, gP_nw, gP_nx, gA_sI, gA_sP, gA_sA, gA_sR, gA_sJ, gA_nw, gA_nx, gR_sI, gR_sP, gR_sA, gR_sR, gR_sJ, gR_nw, gR_nx, reduceCtorEq, Nat.reduceEqDiff, or_self, or_true, true_or, or_false, false_or, eq_self, and_self, and_true, true_and, and_false, false_and, if_true, if_false, ↓reduceIte, ne_eq, not_true_eq_false, not_false_eq_true, zl0, zl1, zl2, zl3, zl4, zl5, zl6, zl7, zl8, zl9, zl10, zl12, zl15, zl16, zl20, zl31, zl32, zl48, zl97, zl99, zl100, zl120, zl127, zl128, zl129, zl130, zl137, zl150, zl160, zl169, zl254, zl255, zl256, zl4000, zl65535, zl65536, if_pos, if_neg, zn_inb, zn_cl, zn_eq, zn_lt, zn_le, zn_add, zn_sub, zn_mul, zn_addn, zn_eqn, zn_neq, zn_nlt, zn_nle, zn_ckb, isB_b2i, b2z0, b2z1, b2it, b2if, M.2, e, g, by1, s1, fX6_isValue_158]
      · simp (disch := omega) only [mp607, mp608, mp609, mp611, mp612, mp613, mp614, mp615, mp616, mp617, mp618, mp619, mp620, mp621, mp622, mp625, mp626, mp631, mp632, mp633, mp636, mp637, mp638, mp639, mp640, mp641, mp642, mp643, mp645, mp646, mp650, mp651, mp652, mp653, mp654, mp655, mp656, mp657, mp658, ln3001, ln3002, ln3003, ln3004, ln3005, ln3006, ln3007, ln3008, ln3009, ln3010, ln3011, ln3012, ln3013, ln3014, ln3015, ln3016, ln3017, ln3018, ln3019, ln3020, ln3021, ln3022, ln3023, ln3024, ln3025, ln3026, ln3027, ln3028, ln3029, ln3030, ln3031, ln3032, ln3033, ln3034, ln3035, ln3036, ln3037, ln3038, ln3039, ck_t, nn_s, bn_d, ca_s, cv_s, oc_n, oc_s, cx_i, cx_r, cy_i, cy_r, gI_sI, gI_sP, gI_sA, gI_sR, gI_sJ, gI_nw, gI_nx, gP_sI, gP_sP, gP_sA, gP_sR, gP_sJ, gP_nw, gP_nx, gA_sI, gA_sP, gA_sA, gA_sR, gA_sJ, gA_nw, gA_nx, gR_sI, gR_sP, gR_sA, gR_sR, gR_sJ, gR_nw, gR_nx, reduceCtorEq, Nat.reduceEqDiff, or_self, or_true, true_or, or_false, false_or, eq_self, and_self, and_true, true_and, and_false, false_and, if_true, if_false, ↓reduceIte, ne_eq, not_true_eq_false, not_false_eq_true, zl0, zl1, zl2, zl3, zl4, zl5, zl6, zl7, zl8, zl9, zl10, zl12, zl15, zl16, zl20, zl31, zl32, zl48, zl97, zl99, zl100, zl120, zl127, zl128, zl129, zl130, zl137, zl150, zl160, zl169, zl254, zl255, zl256, zl4000, zl65535, zl65536, if_pos, if_neg, zn_inb, zn_cl, zn_eq, zn_lt, zn_le, zn_add, zn_sub, zn_mul, zn_addn, zn_eqn, zn_neq, zn_nlt, zn_nle, zn_ckb, isB_b2i, b2z0, b2z1, b2it, b2if, M.2, e, g, by1, s1, fX6_isValue_158]
/-- the answer to `is it a value' by rule 0 or 1 -/
def isR (b : Nat → Nat) (n : Nat) (τ : Tb) (t : Nat) (der : Bool) {d : Nat} (x : Option (Vt d × Nat)) : Bool := match x with
  | none => false
  | some (v, a) => a == n && (!der || ((enc τ d v t none).length == n && sam b (enc τ d v t none) 0))
/-- what asking changes -/
def KQ (h h' : Hp) : Prop := (gP h' = gP h ∧ gL h' = gL h ∧ gR h' = gR h) ∧ (∀ g y, ¬ (y = 3000 ∧ (rdI g = true ∨ g = 623 ∨ g = 624 ∨ g = 629 ∨ g = 630 ∨ g = 634 ∨ g = 635 ∨ g = 647 ∨ g = 648 ∨ g = 649)) → gI h' g y = gI h g y) ∧
  ∀ y i, rdA y = false → ¬ y = 3016 → ¬ y = 3017 → ¬ y = 3020 → ¬ y = 3026 → ¬ y = 3027 → gA h' y i = gA h y i
theorem KQ.tr {h1 h2 h3 : Hp} (a : KQ h1 h2) (c : KQ h2 h3) : KQ h1 h3 :=
  ⟨⟨c.1.1.trans a.1.1, c.1.2.1.trans a.1.2.1, c.1.2.2.trans a.1.2.2⟩, fun g y q => (c.2.1 g y q).trans (a.2.1 g y q), fun y i q1 q2 q3 q4 q5 q6 => (c.2.2 y i q1 q2 q3 q4 q5 q6).trans (a.2.2 y i q1 q2 q3 q4 q5 q6)⟩
theorem GD.kq {h h' : Hp} (a : GD h h') : KQ h h' := ⟨⟨a.1.1, a.1.2.1, a.1.2.2.1⟩, fun g y q => a.2 g y (by omega), fun y i _ _ _ _ _ _ => by rw [a.1.2.2.2]⟩
theorem KM.kq {fr m u : Nat} {h h' : Hp} (a : KM fr m u h h') : KQ h h' := ⟨a.1, fun g y q => a.2.1 g y fun z => q ⟨z.1, Or.inl z.2⟩, fun y i q _ _ _ _ _ => a.2.2.1 y i q⟩
theorem SB.kq {lo hi : Nat} {h h' : Hp} (a : SB lo hi h h') : KQ h h' := ⟨⟨a.1.1, a.1.2.1, a.1.2.2.1⟩, fun g y q => by rw [a.1.2.2.2], fun y i _ _ _ _ q _ => a.2 y i (by omega)⟩
theorem W1.kq {h h' : Hp} (a : W1 h h') : KQ h h' := ⟨a.1, fun g y q => a.2.1 g y (by omega), fun y i _ q1 q2 q3 _ q4 => a.2.2 y i q1 q2 q3 q4⟩
end Iv
