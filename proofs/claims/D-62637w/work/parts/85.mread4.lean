/-! THE MODEL READS (4): leaves -/
set_option maxRecDepth 100000
/-- the loop over a leaf's bytes: what it changes -/
def INo (u : Nat) (h h' : Hp) : Prop := (gP h' = gP h ∧ gL h' = gL h ∧ gR h' = gR h) ∧ (∀ g y, ¬ (y = 3000 ∧ (g = 647 ∨ g = 635)) → gI h' g y = gI h g y) ∧ ∀ y i, ¬ (y = 3028 ∧ u ≤ i) → gA h' y i = gA h y i
section Lf
variable {F d fr m e n N j : Nat} {b : Nat → Nat} {τ : Tb}
theorem in_lp {K len : Nat} {p : Int32} (hl : len ≤ 120) (hK : K = 1 ∨ K = 2 ∨ K = 4) : ∀ (r k nf : Nat) (v : Int32) (h : Hp) (a u : Nat), MSrc h b n → gI h 647 3000 = zI ↑a → gI h 635 3000 = zI ↑u → a + r ≤ n → u + r ≤ 239 → k + r = len → r < nf →
    ∃ h', fX6_inner_205 F d nf 3000 (zI ↑K) p (zI ↑len) v (zI ↑k) h = fX6_inner_205 F d 1 3000 (zI ↑K) p (zI ↑len) (ivS v (byL b a r)) (zI ↑len) h' ∧ gI h' 647 3000 = zI ↑(a + r) ∧ gI h' 635 3000 = zI ↑(u + if K = 4 then r else 0) ∧ (K = 4 → ∀ i, i < r → gA h' 3028 (u + i) = zI ↑(b (a + i))) ∧ INo u h h' := by
  intro r
  induction r with
  | zero =>
    intro k nf v h a u S h1 h2 ha hu hk hn
    cases nf with
    | zero => omega
    | succ nf =>
      have : k = len := by omega
      subst this
      refine ⟨h, ?_, h1, by rw [h2]; split <;> rfl, fun _ i hi => by omega, ⟨rfl, rfl, rfl⟩, fun _ _ _ => rfl, fun _ _ _ => rfl⟩
      unfold fX6_inner_205
      rw [if_pos (Int32.le_refl _), if_pos (Int32.le_refl _)]
      rfl
  | succ r ih =>
    intro k nf v h a u S h1 h2 ha hu hk hn
    cases nf with
    | zero => omega
    | succ nf =>
      have hn' := S.2.2.1
      obtain ⟨s1, s2⟩ := S.2.2.2 a (by omega)
      have fin : ∀ (w : Nat), w = u + (if K = 4 then 1 else 0) → fX6_inner_205 F d (nf + 1) 3000 (zI ↑K) p (zI ↑len) v (zI ↑k) h = fX6_inner_205 F d nf 3000 (zI ↑K) p (zI ↑len) ((v <<< 8) ||| zI ↑(b a)) (zI ↑(k + 1)) (sI (sI (sA h 3028 u (zI ↑(b a))) 635 3000 (zI ↑w)) 647 3000 (zI ↑(a + 1))) := by
        intro w hw
        rw [fX6_inner_205]
        unfold fX6_inner_263
        have e8 : (8 : Int32) &&& 31 = 8 := by decide
        rw [e8]
        rcases hK with z | z | z
        · subst z
          have hw2 : w = u := by rw [hw]; rfl
          subst hw2
          simp (disch := omega) only [mp607, mp608, mp609, mp611, mp612, mp613, mp614, mp615, mp616, mp617, mp618, mp619, mp620, mp621, mp622, mp625, mp626, mp631, mp632, mp633, mp636, mp637, mp638, mp639, mp640, mp641, mp642, mp643, mp645, mp646, mp650, mp651, mp652, mp653, mp654, mp655, mp656, mp657, mp658, ln3001, ln3002, ln3003, ln3004, ln3005, ln3006, ln3007, ln3008, ln3009, ln3010, ln3011, ln3012, ln3013, ln3014, ln3015, ln3016, ln3017, ln3018, ln3019, ln3020, ln3021, ln3022, ln3023, ln3024, ln3025, ln3026, ln3027, ln3028, ln3029, ln3030, ln3031, ln3032, ln3033, ln3034, ln3035, ln3036, ln3037, ln3038, ln3039, ck_t, nn_s, bn_d, ca_s, cv_s, oc_n, oc_s, cx_i, cx_r, cy_i, cy_r, gI_sI, gI_sP, gI_sA, gI_sR, gI_sJ, gI_nw, gI_nx, gP_sI, gP_sP, gP_sA, gP_sR, gP_sJ, gP_nw, gP_nx, gA_sI, gA_sP, gA_sA, gA_sR, gA_sJ, gA_nw, gA_nx, gR_sI, gR_sP, gR_sA, gR_sR, gR_sJ, gR_nw, gR_nx, Nat.reduceEqDiff, or_self, or_true, true_or, or_false, false_or, eq_self, and_self, and_true, true_and, and_false, false_and, if_true, if_false, ↓reduceIte, ne_eq, not_true_eq_false, not_false_eq_true, zl0, zl1, zl2, zl3, zl4, zl5, zl6, zl7, zl8, zl9, zl10, zl12, zl15, zl16, zl20, zl31, zl32, zl48, zl97, zl99, zl100, zl120, zl127, zl128, zl129, zl130, zl137, zl150, zl160, zl169, zl254, zl255, zl256, zl4000, zl65535, zl65536, if_pos, if_neg, zn_inb, zn_cl, zn_eq, zn_lt, zn_le, zn_add, zn_sub, zn_mul, zn_addn, zn_eqn, zn_neq, zn_nlt, zn_nle, zn_ckb, isB_b2i, b2z0, b2z1, b2it, b2if, S.1.2, h1, h2, s1, Nat.add_zero]
        · subst z
          have hw2 : w = u := by rw [hw]; rfl
          subst hw2
          simp (disch := omega) only [mp607, mp608, mp609, mp611, mp612, mp613, mp614, mp615, mp616, mp617, mp618, mp619, mp620, mp621, mp622, mp625, mp626, mp631, mp632, mp633, mp636, mp637, mp638, mp639, mp640, mp641, mp642, mp643, mp645, mp646, mp650, mp651, mp652, mp653, mp654, mp655, mp656, mp657, mp658, ln3001, ln3002, ln3003, ln3004, ln3005, ln3006, ln3007, ln3008, ln3009, ln3010, ln3011, ln3012, ln3013, ln3014, ln3015, ln3016, ln3017, ln3018, ln3019, ln3020, ln3021, ln3022, ln3023, ln3024, ln3025, ln3026, ln3027, ln3028, ln3029, ln3030, ln3031, ln3032, ln3033, ln3034, ln3035, ln3036, ln3037, ln3038, ln3039, ck_t, nn_s, bn_d, ca_s, cv_s, oc_n, oc_s, cx_i, cx_r, cy_i, cy_r, gI_sI, gI_sP, gI_sA, gI_sR, gI_sJ, gI_nw, gI_nx, gP_sI, gP_sP, gP_sA, gP_sR, gP_sJ, gP_nw, gP_nx, gA_sI, gA_sP, gA_sA, gA_sR, gA_sJ, gA_nw, gA_nx, gR_sI, gR_sP, gR_sA, gR_sR, gR_sJ, gR_nw, gR_nx, Nat.reduceEqDiff, or_self, or_true, true_or, or_false, false_or, eq_self, and_self, and_true, true_and, and_false, false_and, if_true, if_false, ↓reduceIte, ne_eq, not_true_eq_false, not_false_eq_true, zl0, zl1, zl2, zl3, zl4, zl5, zl6, zl7, zl8, zl9, zl10, zl12, zl15, zl16, zl20, zl31, zl32, zl48, zl97, zl99, zl100, zl120, zl127, zl128, zl129, zl130, zl137, zl150, zl160, zl169, zl254, zl255, zl256, zl4000, zl65535, zl65536, if_pos, if_neg, zn_inb, zn_cl, zn_eq, zn_lt, zn_le, zn_add, zn_sub, zn_mul, zn_addn, zn_eqn, zn_neq, zn_nlt, zn_nle, zn_ckb, isB_b2i, b2z0, b2z1, b2it, b2if, S.1.2, h1, h2, s1, Nat.add_zero]
        · subst z
          have hw2 : w = u + 1 := by rw [hw]; rfl
          subst hw2
          simp (disch := omega) only [mp607, mp608, mp609, mp611, mp612, mp613, mp614, mp615, mp616, mp617, mp618, mp619, mp620, mp621, mp622, mp625, mp626, mp631, mp632, mp633, mp636, mp637, mp638, mp639, mp640, mp641, mp642, mp643, mp645, mp646, mp650, mp651, mp652, mp653, mp654, mp655, mp656, mp657, mp658, ln3001, ln3002, ln3003, ln3004, ln3005, ln3006, ln3007, ln3008, ln3009, ln3010, ln3011, ln3012, ln3013, ln3014, ln3015, ln3016, ln3017, ln3018, ln3019, ln3020, ln3021, ln3022, ln3023, ln3024, ln3025, ln3026, ln3027, ln3028, ln3029, ln3030, ln3031, ln3032, ln3033, ln3034, ln3035, ln3036, ln3037, ln3038, ln3039, ck_t, nn_s, bn_d, ca_s, cv_s, oc_n, oc_s, cx_i, cx_r, cy_i, cy_r, gI_sI, gI_sP, gI_sA, gI_sR, gI_sJ, gI_nw, gI_nx, gP_sI, gP_sP, gP_sA, gP_sR, gP_sJ, gP_nw, gP_nx, gA_sI, gA_sP, gA_sA, gA_sR, gA_sJ, gA_nw, gA_nx, gR_sI, gR_sP, gR_sA, gR_sR, gR_sJ, gR_nw, gR_nx, Nat.reduceEqDiff, or_self, or_true, true_or, or_false, false_or, eq_self, and_self, and_true, true_and, and_false, false_and, if_true, if_false, ↓reduceIte, ne_eq, not_true_eq_false, not_false_eq_true, zl0, zl1, zl2, zl3, zl4, zl5, zl6, zl7, zl8, zl9, zl10, zl12, zl15, zl16, zl20, zl31, zl32, zl48, zl97, zl99, zl100, zl120, zl127, zl128, zl129, zl130, zl137, zl150, zl160, zl169, zl254, zl255, zl256, zl4000, zl65535, zl65536, if_pos, if_neg, zn_inb, zn_cl, zn_eq, zn_lt, zn_le, zn_add, zn_sub, zn_mul, zn_addn, zn_eqn, zn_neq, zn_nlt, zn_nle, zn_ckb, isB_b2i, b2z0, b2z1, b2it, b2if, S.1.2, h1, h2, s1]
      obtain ⟨h', e1, q1, q2, q3, q4⟩ := ih (k + 1) nf ((v <<< 8) ||| zI ↑(b a)) (sI (sI (sA h 3028 u (zI ↑(b a))) 635 3000 (zI ↑(u + (if K = 4 then 1 else 0)))) 647 3000 (zI ↑(a + 1))) (a + 1) (u + (if K = 4 then 1 else 0)) ⟨S.1, by simp (disch := omega) only [mp607, mp608, mp609, mp611, mp612, mp613, mp614, mp615, mp616, mp617, mp618, mp619, mp620, mp621, mp622, mp625, mp626, mp631, mp632, mp633, mp636, mp637, mp638, mp639, mp640, mp641, mp642, mp643, mp645, mp646, mp650, mp651, mp652, mp653, mp654, mp655, mp656, mp657, mp658, ln3001, ln3002, ln3003, ln3004, ln3005, ln3006, ln3007, ln3008, ln3009, ln3010, ln3011, ln3012, ln3013, ln3014, ln3015, ln3016, ln3017, ln3018, ln3019, ln3020, ln3021, ln3022, ln3023, ln3024, ln3025, ln3026, ln3027, ln3028, ln3029, ln3030, ln3031, ln3032, ln3033, ln3034, ln3035, ln3036, ln3037, ln3038, ln3039, ck_t, nn_s, bn_d, ca_s, cv_s, oc_n, oc_s, cx_i, cx_r, cy_i, cy_r, gI_sI, gI_sP, gI_sA, gI_sR, gI_sJ, gI_nw, gI_nx, gP_sI, gP_sP, gP_sA, gP_sR, gP_sJ, gP_nw, gP_nx, gA_sI, gA_sP, gA_sA, gA_sR, gA_sJ, gA_nw, gA_nx, gR_sI, gR_sP, gR_sA, gR_sR, gR_sJ, gR_nw, gR_nx, Nat.reduceEqDiff, or_self, or_true, true_or, or_false, false_or, eq_self, and_self, and_true, true_and, and_false, false_and, if_true, if_false, ↓reduceIte, ne_eq, not_true_eq_false, not_false_eq_true, zl0, zl1, zl2, zl3, zl4, zl5, zl6, zl7, zl8, zl9, zl10, zl12, zl15, zl16, zl20, zl31, zl32, zl48, zl97, zl99, zl100, zl120, zl127, zl128, zl129, zl130, zl137, zl150, zl160, zl169, zl254, zl255, zl256, zl4000, zl65535, zl65536, if_pos, if_neg, zn_inb, zn_cl, zn_eq, zn_lt, zn_le, zn_add, zn_sub, zn_mul, zn_addn, zn_eqn, zn_neq, zn_nlt, zn_nle, zn_ckb, isB_b2i, b2z0, b2z1, b2it, b2if]; exact S.2.1, S.2.2.1, fun i hi => ⟨by simp (disch := omega) only [mp607, mp608, mp609, mp611, mp612, mp613, mp614, mp615, mp616, mp617, mp618, mp619, mp620, mp621, mp622, mp625, mp626, mp631, mp632, mp633, mp636, mp637, mp638, mp639, mp640, mp641, mp642, mp643, mp645, mp646, mp650, mp651, mp652, mp653, mp654, mp655, mp656, mp657, mp658, ln3001, ln3002, ln3003, ln3004, ln3005, ln3006, ln3007, ln3008, ln3009, ln3010, ln3011, ln3012, ln3013, ln3014, ln3015, ln3016, ln3017, ln3018, ln3019, ln3020, ln3021, ln3022, ln3023, ln3024, ln3025, ln3026, ln3027, ln3028, ln3029, ln3030, ln3031, ln3032, ln3033, ln3034, ln3035, ln3036, ln3037, ln3038, ln3039, ck_t, nn_s, bn_d, ca_s, cv_s, oc_n, oc_s, cx_i, cx_r, cy_i, cy_r, gI_sI, gI_sP, gI_sA, gI_sR, gI_sJ, gI_nw, gI_nx, gP_sI, gP_sP, gP_sA, gP_sR, gP_sJ, gP_nw, gP_nx, gA_sI, gA_sP, gA_sA, gA_sR, gA_sJ, gA_nw, gA_nx, gR_sI, gR_sP, gR_sA, gR_sR, gR_sJ, gR_nw, gR_nx, Nat.reduceEqDiff, or_self, or_true, true_or, or_false, false_or, eq_self, and_self, and_true, true_and, and_false, false_and, if_true, if_false, ↓reduceIte, ne_eq, not_true_eq_false, not_false_eq_true, zl0, zl1, zl2, zl3, zl4, zl5, zl6, zl7, zl8, zl9, zl10, zl12, zl15, zl16, zl20, zl31, zl32, zl48, zl97, zl99, zl100, zl120, zl127, zl128, zl129, zl130, zl137, zl150, zl160, zl169, zl254, zl255, zl256, zl4000, zl65535, zl65536, if_pos, if_neg, zn_inb, zn_cl, zn_eq, zn_lt, zn_le, zn_add, zn_sub, zn_mul, zn_addn, zn_eqn, zn_neq, zn_nlt, zn_nle, zn_ckb, isB_b2i, b2z0, b2z1, b2it, b2if]; exact (S.2.2.2 i hi).1, (S.2.2.2 i hi).2⟩⟩ (by simp (disch := omega) only [mp607, mp608, mp609, mp611, mp612, mp613, mp614, mp615, mp616, mp617, mp618, mp619, mp620, mp621, mp622, mp625, mp626, mp631, mp632, mp633, mp636, mp637, mp638, mp639, mp640, mp641, mp642, mp643, mp645, mp646, mp650, mp651, mp652, mp653, mp654, mp655, mp656, mp657, mp658, ln3001, ln3002, ln3003, ln3004, ln3005, ln3006, ln3007, ln3008, ln3009, ln3010, ln3011, ln3012, ln3013, ln3014, ln3015, ln3016, ln3017, ln3018, ln3019, ln3020, ln3021, ln3022, ln3023, ln3024, ln3025, ln3026, ln3027, ln3028, ln3029, ln3030, ln3031, ln3032, ln3033, ln3034, ln3035, ln3036, ln3037, ln3038, ln3039, ck_t, nn_s, bn_d, ca_s, cv_s, oc_n, oc_s, cx_i, cx_r, cy_i, cy_r, gI_sI, gI_sP, gI_sA, gI_sR, gI_sJ, gI_nw, gI_nx, gP_sI, gP_sP, gP_sA, gP_sR, gP_sJ, gP_nw, gP_nx, gA_sI, gA_sP, gA_sA, gA_sR, gA_sJ, gA_nw, gA_nx, gR_sI, gR_sP, gR_sA, gR_sR, gR_sJ, gR_nw, gR_nx, Nat.reduceEqDiff, or_self, or_true, true_or, or_false, false_or, eq_self, and_self, and_true, true_and, and_false, false_and, if_true, if_false, ↓reduceIte, ne_eq, not_true_eq_false, not_false_eq_true, zl0, zl1, zl2, zl3, zl4, zl5, zl6, zl7, zl8, zl9, zl10, zl12, zl15, zl16, zl20, zl31, zl32, zl48, zl97, zl99, zl100, zl120, zl127, zl128, zl129, zl130, zl137, zl150, zl160, zl169, zl254, zl255, zl256, zl4000, zl65535, zl65536, if_pos, if_neg, zn_inb, zn_cl, zn_eq, zn_lt, zn_le, zn_add, zn_sub, zn_mul, zn_addn, zn_eqn, zn_neq, zn_nlt, zn_nle, zn_ckb, isB_b2i, b2z0, b2z1, b2it, b2if]) (by simp (disch := omega) only [mp607, mp608, mp609, mp611, mp612, mp613, mp614, mp615, mp616, mp617, mp618, mp619, mp620, mp621, mp622, mp625, mp626, mp631, mp632, mp633, mp636, mp637, mp638, mp639, mp640, mp641, mp642, mp643, mp645, mp646, mp650, mp651, mp652, mp653, mp654, mp655, mp656, mp657, mp658, ln3001, ln3002, ln3003, ln3004, ln3005, ln3006, ln3007, ln3008, ln3009, ln3010, ln3011, ln3012, ln3013, ln3014, ln3015, ln3016, ln3017, ln3018, ln3019, ln3020, ln3021, ln3022, ln3023, ln3024, ln3025, ln3026, ln3027, ln3028, ln3029, ln3030, ln3031, ln3032, ln3033, ln3034, ln3035, ln3036, ln3037, ln3038, ln3039, ck_t, nn_s, bn_d, ca_s, cv_s, oc_n, oc_s, cx_i, cx_r, cy_i, cy_r, gI_sI, gI_sP, gI_sA, gI_sR, gI_sJ, gI_nw, gI_nx, gP_sI, gP_sP, gP_sA, gP_sR, gP_sJ, gP_nw, gP_nx, gA_sI, gA_sP, gA_sA, gA_sR, gA_sJ, gA_nw, gA_nx, gR_sI, gR_sP, gR_sA, gR_sR, gR_sJ, gR_nw, gR_nx, Nat.reduceEqDiff, or_self, or_true, true_or, or_false, false_or, eq_self, and_self, and_true, true_and, and_false, false_and, if_true, if_false, ↓reduceIte, ne_eq, not_true_eq_false, not_false_eq_true, zl0, zl1, zl2, zl3, zl4, zl5, zl6, zl7, zl8, zl9, zl10, zl12, zl15, zl16, zl20, zl31, zl32, zl48, zl97, zl99, zl100, zl120, zl127, zl128, zl129, zl130, zl137, zl150, zl160, zl169, zl254, zl255, zl256, zl4000, zl65535, zl65536, if_pos, if_neg, zn_inb, zn_cl, zn_eq, zn_lt, zn_le, zn_add, zn_sub, zn_mul, zn_addn, zn_eqn, zn_neq, zn_nlt, zn_nle, zn_ckb, isB_b2i, b2z0, b2z1, b2it, b2if]) (by omega) (by split <;> omega) (by omega) (by omega)
      refine ⟨h', ?_, by rw [show a + (r + 1) = a + 1 + r by omega]; exact q1, ?_, fun hk4 i hi => ?_, ⟨q4.1.1, q4.1.2.1, q4.1.2.2⟩, fun g y hg => ?_, fun y i hy => ?_⟩
      · rw [fin _ rfl, e1, byL_s]
        show fX6_inner_205 F d 1 3000 (zI ↑K) p (zI ↑len) (ivS ((v <<< 8) ||| zI ↑(b a)) (byL b (a + 1) r)) (zI ↑len) h' = fX6_inner_205 F d 1 3000 (zI ↑K) p (zI ↑len) (ivS ((v <<< 8) ||| Int32.ofNat (b a)) (byL b (a + 1) r)) (zI ↑len) h'
        rw [zI_nat]
      · rw [q2]
        congr 2
        split <;> omega
      · rw [if_pos hk4] at q3
        cases i with
        | zero => rw [q4.2.2 _ _ (by rw [if_pos hk4]; omega)]; simp (disch := omega) only [mp607, mp608, mp609, mp611, mp612, mp613, mp614, mp615, mp616, mp617, mp618, mp619, mp620, mp621, mp622, mp625, mp626, mp631, mp632, mp633, mp636, mp637, mp638, mp639, mp640, mp641, mp642, mp643, mp645, mp646, mp650, mp651, mp652, mp653, mp654, mp655, mp656, mp657, mp658, ln3001, ln3002, ln3003, ln3004, ln3005, ln3006, ln3007, ln3008, ln3009, ln3010, ln3011, ln3012, ln3013, ln3014, ln3015, ln3016, ln3017, ln3018, ln3019, ln3020, ln3021, ln3022, ln3023, ln3024, ln3025, ln3026, ln3027, ln3028, ln3029, ln3030, ln3031, ln3032, ln3033, ln3034, ln3035, ln3036, ln3037, ln3038, ln3039, ck_t, nn_s, bn_d, ca_s, cv_s, oc_n, oc_s, cx_i, cx_r, cy_i, cy_r, gI_sI, gI_sP, gI_sA, gI_sR, gI_sJ, gI_nw, gI_nx, gP_sI, gP_sP, gP_sA, gP_sR, gP_sJ, gP_nw, gP_nx, gA_sI, gA_sP, gA_sA, gA_sR, gA_sJ, gA_nw, gA_nx, gR_sI, gR_sP, gR_sA, gR_sR, gR_sJ, gR_nw, gR_nx, Nat.reduceEqDiff, or_self, or_true, true_or, or_false, false_or, eq_self, and_self, and_true, true_and, and_false, false_and, if_true, if_false, ↓reduceIte, ne_eq, not_true_eq_false, not_false_eq_true, zl0, zl1, zl2, zl3, zl4, zl5, zl6, zl7, zl8, zl9, zl10, zl12, zl15, zl16, zl20, zl31, zl32, zl48, zl97, zl99, zl100, zl120, zl127, zl128, zl129, zl130, zl137, zl150, zl160, zl169, zl254, zl255, zl256, zl4000, zl65535, zl65536, if_pos, if_neg, zn_inb, zn_cl, zn_eq, zn_lt, zn_le, zn_add, zn_sub, zn_mul, zn_addn, zn_eqn, zn_neq, zn_nlt, zn_nle, zn_ckb, isB_b2i, b2z0, b2z1, b2it, b2if, Nat.add_zero]
        | succ i =>
          have := q3 hk4 i (by omega)
          rw [show u + (i + 1) = u + 1 + i by omega, show a + (i + 1) = a + 1 + i by omega]; exact this
      · rw [q4.2.1 g y hg]
        rw [gI_sI, if_neg (fun z => hg ⟨z.2, Or.inl z.1⟩), gI_sI, if_neg (fun z => hg ⟨z.2, Or.inr z.1⟩)]; rfl
      · rw [q4.2.2 y i (fun z => hy ⟨z.1, by have := z.2; omega⟩)]
        rw [gA_sI, gA_sI, gA_sA, if_neg (by omega)]
/-- what a leaf comes to -/
def LR (τ : Tb) (t as : Nat) (of : Int32) (h h1 : Hp) (fr m u e : Nat) {d : Nat} (x : Option (Vt d × Nat)) : Prop := match x with
  | none => Bad h1
  | some (v, a') => MR h1 a' fr (m + sz d v) (u + oz d v) e ∧ PV h1 τ d v m u of as t ∧ KM fr m u h h1
theorem z00 : zI ↑(0 : Nat) = (0 : Int32) := rfl
theorem in156_b {h : Hp} {x4 x5 x6 x7 : Int32} (B : Bad h) : fX6_inner_156 F d 3000 x4 x5 x6 x7 h = some h := by
  unfold fX6_inner_156
  unfold Bad at B
  rw [B, if_pos z00]
theorem in151_b {h : Hp} {x4 x5 x6 x7 : Int32} : ∃ h', fX6_inner_151 F d 3000 x4 x5 x6 x7 h = some h' ∧ Bad h' := by
  unfold fX6_inner_151
  rw [bn_d, in156_b (by unfold Bad; rw [gI_sI, if_pos ⟨rfl, rfl⟩]; rfl)]
  exact ⟨_, rfl, by unfold Bad; rw [gI_sI, if_pos ⟨rfl, rfl⟩]; rfl⟩
theorem in110_b {h : Hp} {x4 x5 x6 s0 : Int32} (B : Bad h) : ∃ h', fX6_inner_110 F d 3000 x4 x5 x6 s0 h = some h' ∧ Bad h' := by
  have b135 : ∃ h', fX6_inner_135 F d 3000 x4 x5 x6 s0 h = some h' ∧ Bad h' := by
    unfold fX6_inner_135
    split
    · rw [mem_ok, ca_s]
      split
      · exact in151_b
      · rw [in156_b B]; exact ⟨h, rfl, B⟩
    · rw [in156_b B]; exact ⟨h, rfl, B⟩
  have b123 : ∃ h', fX6_inner_123 F d 3000 x4 x5 x6 s0 h = some h' ∧ Bad h' := by
    unfold fX6_inner_123
    split
    · split
      · exact b135
      · exact in151_b
    · exact b135
  unfold fX6_inner_110
  split
  · split
    · exact b123
    · exact in151_b
  · exact b123
theorem in48_b {h : Hp} {x4 s0 : Int32} (B : Bad h) : ∃ h', fX6_inner_48 F d 3000 x4 s0 h = some h' ∧ Bad h' := by
  have i69 : ∀ x : Int32, ∃ h', fX6_inner_69 F d 3000 x4 s0 x h = some h' ∧ Bad h' := by
    intro x
    unfold fX6_inner_69 fX6_inner_89 fX6_inner_109
    have B0 := B
    unfold Bad at B
    rw [B, if_pos z00, if_pos z00]
    exact in110_b B0
  unfold fX6_inner_48 fX6_inner_64
  split
  · exact i69 1
  · split
    · exact i69 1
    · exact i69 0
theorem in29_b {h : Hp} {x1 x2 x3 x4 : Int32} (B : Bad h) : ∃ h', fX6_inner_29 F d 3000 x1 x2 x3 x4 h = some h' ∧ Bad h' := by
  unfold fX6_inner_29
  have B0 := B
  unfold Bad at B
  rw [B, if_pos z00]
  exact in48_b B0
/-- the tag byte, and a part for what is behind it -/
theorem in_hd {h : Hp} {a u q x0 t as : Nat} {of : Int32} (S : MSrc h b n) (R : MR h a fr m u e) (T : MT h τ N) (hq : q < N) (hb : gI h 623 3000 = zI ↑q) (ht : gA h 3016 0 = zI ↑x0) (hx0 : x0 < 256) (he : e ≤ n) (hk : tK τ q < 100) :
    (m < 100 ∧ a < e ∧ b a = x0 → ∃ h1, fX6_inner F d 3000 (zI ↑t) of (zI ↑as) h = fX6_inner_48 F d 3000 (zI ↑(tK τ q)) (zI ↑m) h1 ∧ MR h1 (a + 1) fr (m + 1) u e ∧ PtI h1 m t of as 0 u ∧ KM fr m u h h1 ∧ gI h1 623 3000 = zI ↑q) ∧
    (¬ (m < 100 ∧ a < e ∧ b a = x0) → ∃ h1, fX6_inner F d 3000 (zI ↑t) of (zI ↑as) h = some h1 ∧ Bad h1) := by
  have hn := S.2.2.1
  have hN := T.1
  obtain ⟨⟨a1, -⟩, -⟩ := T.2 q hq
  have E : ∀ (v : Int32) (h5 : Hp), fX6_next F d 3000 h = some (v, h5) → gP h5 = gP h → gA h5 = gA h → fX6_inner F d 3000 (zI ↑t) of (zI ↑as) h = if v = zI ↑x0 then fX6_inner_29 F d 3000 (zI ↑t) of (zI ↑as) (zI ↑(tK τ q)) h5 else fX6_inner_29 F d 3000 (zI ↑t) of (zI ↑as) (zI ↑(tK τ q)) (sI h5 649 3000 (zI ↑(0 : Nat))) := by
    intro v h5 e5 p5 p6
    unfold fX6_inner
    simp (disch := omega) only [mp607, mp608, mp609, mp611, mp612, mp613, mp614, mp615, mp616, mp617, mp618, mp619, mp620, mp621, mp622, mp625, mp626, mp631, mp632, mp633, mp636, mp637, mp638, mp639, mp640, mp641, mp642, mp643, mp645, mp646, mp650, mp651, mp652, mp653, mp654, mp655, mp656, mp657, mp658, ln3001, ln3002, ln3003, ln3004, ln3005, ln3006, ln3007, ln3008, ln3009, ln3010, ln3011, ln3012, ln3013, ln3014, ln3015, ln3016, ln3017, ln3018, ln3019, ln3020, ln3021, ln3022, ln3023, ln3024, ln3025, ln3026, ln3027, ln3028, ln3029, ln3030, ln3031, ln3032, ln3033, ln3034, ln3035, ln3036, ln3037, ln3038, ln3039, ck_t, nn_s, bn_d, ca_s, cv_s, oc_n, oc_s, cx_i, cx_r, cy_i, cy_r, gI_sI, gI_sP, gI_sA, gI_sR, gI_sJ, gI_nw, gI_nx, gP_sI, gP_sP, gP_sA, gP_sR, gP_sJ, gP_nw, gP_nx, gA_sI, gA_sP, gA_sA, gA_sR, gA_sJ, gA_nw, gA_nx, gR_sI, gR_sP, gR_sA, gR_sR, gR_sJ, gR_nw, gR_nx, Nat.reduceEqDiff, or_self, or_true, true_or, or_false, false_or, eq_self, and_self, and_true, true_and, and_false, false_and, if_true, if_false, ↓reduceIte, ne_eq, not_true_eq_false, not_false_eq_true, zl0, zl1, zl2, zl3, zl4, zl5, zl6, zl7, zl8, zl9, zl10, zl12, zl15, zl16, zl20, zl31, zl32, zl48, zl97, zl99, zl100, zl120, zl127, zl128, zl129, zl130, zl137, zl150, zl160, zl169, zl254, zl255, zl256, zl4000, zl65535, zl65536, if_pos, if_neg, zn_inb, zn_cl, zn_eq, zn_lt, zn_le, zn_add, zn_sub, zn_mul, zn_addn, zn_eqn, zn_neq, zn_nlt, zn_nle, zn_ckb, isB_b2i, b2z0, b2z1, b2it, b2if, S.1.2, hb, a1, e5, p5, p6, ht]
  by_cases c : a < e
  · have hba := (S.2.2.2 a (by omega)).2
    rw [E _ _ (mn_in S R c he) rfl rfl]
    have S1 : MSrc (sI h 647 3000 (zI ↑(a + 1))) b n := S.at (by decide)
    have R1 := R.at (x := a + 1) (by have := R.2.2.2.2.1; omega) (by omega)
    by_cases c1 : b a = x0
    · rw [if_pos (show zI ↑(b a) = zI ↑x0 by rw [c1])]
      unfold fX6_inner_29
      rw [if_neg (by rw [R1.1.2.2.1]; decide)]
      by_cases c2 : m < 100
      · refine ⟨fun _ => ?_, fun z => absurd ⟨c2, c, c1⟩ z⟩
        obtain ⟨h1, e1, R2, P, K, k1, k2, -⟩ := adds_ok (F := F) (d := d) S1 R1 c2 t as of 0
        rw [e1, ca_s]
        refine ⟨h1, rfl, R2, P, ((KM.rf _ _ _ _).sI (by decide)).tr (Nat.le_refl _) (Nat.le_refl _) (Nat.le_refl _) K, ?_⟩
        rw [k1, gI_sI, if_neg (by decide)]; exact hb
      · refine ⟨fun z => absurd z.1 c2, fun _ => ?_⟩
        rw [adds_no S1 R1 he c2, ca_s]
        exact in48_b (by unfold Bad; rw [gI_sI, if_pos ⟨rfl, rfl⟩])
    · refine ⟨fun z => absurd z.2.2 c1, fun _ => ?_⟩
      rw [if_neg (show ¬ zI ↑(b a) = zI ↑x0 from fun z => c1 ((zn_eq (by omega) (by omega)).mp z))]
      exact in29_b (by unfold Bad; rw [gI_sI, if_pos ⟨rfl, rfl⟩])
  · refine ⟨fun z => absurd z.2.1 c, fun _ => ?_⟩
    rw [E _ _ (mn_out S R (by omega) he) rfl rfl]
    split
    · exact in29_b (by unfold Bad; rw [gI_sI, if_neg (by decide), gI_sI, if_pos ⟨rfl, rfl⟩])
    · exact in29_b (by unfold Bad; rw [gI_sI, if_pos ⟨rfl, rfl⟩])
end Lf
