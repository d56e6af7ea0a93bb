/-! THE MODEL READS BITS (1) -/
set_option maxRecDepth 100000
section Mb
variable {F dd n p fr m u : Nat} {b : Nat → Nat} {h : Hp}
/-- only the place and whether it is good have changed -/
def PQ (h h' : Hp) : Prop := (gP h' = gP h ∧ gL h' = gL h ∧ gR h' = gR h ∧ gA h' = gA h) ∧ ∀ g y, ¬ (y = 3000 ∧ (g = 647 ∨ g = 649)) → gI h' g y = gI h g y
theorem PQ.rf (h : Hp) : PQ h h := ⟨⟨rfl, rfl, rfl, rfl⟩, fun _ _ _ => rfl⟩
theorem PQ.tr {h1 h2 h3 : Hp} (a : PQ h1 h2) (c : PQ h2 h3) : PQ h1 h3 :=
  ⟨⟨c.1.1.trans a.1.1, c.1.2.1.trans a.1.2.1, c.1.2.2.1.trans a.1.2.2.1, c.1.2.2.2.trans a.1.2.2.2⟩, fun g y q => (c.2 g y q).trans (a.2 g y q)⟩
theorem PQ.s7 (h : Hp) (v : Int32) : PQ h (sI h 647 3000 v) := ⟨⟨rfl, rfl, rfl, rfl⟩, fun g y q => by rw [gI_sI, if_neg (by omega)]⟩
theorem PQ.s9 (h : Hp) (v : Int32) : PQ h (sI h 649 3000 v) := ⟨⟨rfl, rfl, rfl, rfl⟩, fun g y q => by rw [gI_sI, if_neg (by omega)]⟩
theorem PQ.ms {h h' : Hp} (a : PQ h h') (S : MSrc h b n) : MSrc h' b n := by
  refine ⟨?_, by rw [a.2 _ _ (by omega)]; exact S.2.1, S.2.2.1, fun i hi => by rw [a.1.2.2.2]; exact S.2.2.2 i hi⟩
  have := S.1
  unfold MP at this ⊢
  rw [a.1.1, a.1.2.1]; exact this
/-- the place of the next bit; all is good -/
def PG (h : Hp) (p : Nat) : Prop := gI h 647 3000 = zI ↑p ∧ gI h 649 3000 = zI ↑(1 : Nat)
/-- what is known behind reading bits -/
def PR (h' : Hp) (x : Int32) (r : Option (Nat × Nat)) : Prop := match r with
  | none => Bad h'
  | some (v, p1) => x = zI ↑v ∧ PG h' p1
theorem bit_in (S : MSrc h b n) (G : PG h p) (hp : p < 8 * n) : fX6_bit F dd 3000 h = some (zI ↑(btA b p), sI h 647 3000 (zI ↑(p + 1))) := by
  obtain ⟨g1, g2⟩ := G
  obtain ⟨M, s1, s2, s3⟩ := S
  obtain ⟨c1, c2⟩ := s3 (p / 8) (by omega)
  have d8 : zI ↑p / 8 = zI ↑(p / 8) := by
    rw [show (8 : Int32) = zI 8 from rfl, zI_div (by omega) (by omega) (by omega) (by omega)]; rfl
  have r8 : zI ↑p - zI ↑p / 8 * 8 = zI ↑(p % 8) := by
    rw [show (8 : Int32) = zI 8 from rfl, zI_rem (by omega) (by omega) (by omega) (by omega)]; rfl
  have s7 : gI h 647 3000 + 1 = zI ↑(p + 1) := by rw [g1, show (1 : Int32) = zI ↑(1 : Nat) from rfl, zn_add]
  have i7 : gI (sI h 647 3000 (zI ↑(p + 1))) 647 3000 - 1 = zI ↑p := by
    rw [gI_sI, if_pos ⟨rfl, rfl⟩, show (1 : Int32) = zI ↑(1 : Nat) from rfl, zn_sub (by omega)]; rfl
  have i9 : ¬ gI (sI h 647 3000 (zI ↑(p + 1))) 649 3000 = 0 := by
    rw [gI_sI, if_neg (by omega), g2]; decide
  have cond : gI h 647 3000 < 8 * gI h 628 3000 := by
    rw [g1, s1]
    simp (disch := omega) only [mp607, mp608, mp609, mp611, mp612, mp613, mp614, mp615, mp616, mp617, mp618, mp619, mp620, mp621, mp622, mp625, mp626, mp631, mp632, mp633, mp636, mp637, mp638, mp639, mp640, mp641, mp642, mp643, mp645, mp646, mp650, mp651, mp652, mp653, mp654, mp655, mp656, mp657, mp658, ln3001, ln3002, ln3003, ln3004, ln3005, ln3006, ln3007, ln3008, ln3009, ln3010, ln3011, ln3012, ln3013, ln3014, ln3015, ln3016, ln3017, ln3018, ln3019, ln3020, ln3021, ln3022, ln3023, ln3024, ln3025, ln3026, ln3027, ln3028, ln3029, ln3030, ln3031, ln3032, ln3033, ln3034, ln3035, ln3036, ln3037, ln3038, ln3039, ck_t, nn_s, bn_d, ca_s, cv_s, oc_n, oc_s, cx_i, cx_r, cy_i, cy_r, gI_sI, gI_sP, gI_sA, gI_sR, gI_sJ, gI_nw, gI_nx, gP_sI, gP_sP, gP_sA, gP_sR, gP_sJ, gP_nw, gP_nx, gA_sI, gA_sP, gA_sA, gA_sR, gA_sJ, gA_nw, gA_nx, gR_sI, gR_sP, gR_sA, gR_sR, gR_sJ, gR_nw, gR_nx, reduceCtorEq, Nat.reduceEqDiff, or_self, or_true, true_or, or_false, false_or, eq_self, and_self, and_true, true_and, and_false, false_and, if_true, if_false, ↓reduceIte, ne_eq, not_true_eq_false, not_false_eq_true, zl0, zl1, zl2, zl3, zl4, zl5, zl6, zl7, zl8, zl9, zl10, zl12, zl15, zl16, zl20, zl31, zl32, zl48, zl97, zl99, zl100, zl120, zl127, zl128, zl129, zl130, zl137, zl150, zl160, zl169, zl254, zl255, zl256, zl4000, zl65535, zl65536, if_pos, if_neg, zn_inb, zn_cl, zn_eq, zn_lt, zn_le, zn_add, zn_sub, zn_mul, zn_addn, zn_eqn, zn_neq, zn_nlt, zn_nle, zn_ckb, isB_b2i, b2z0, b2z1, b2it, b2if]
    omega
  have M1 : MP (sI h 647 3000 (zI ↑(p + 1))) := M
  unfold fX6_bit fX6_bit_19
  rw [if_pos cond, bn_d, s7, if_neg i9, M1.2, mp632, nn_s, i7, d8, ln3019, zn_inb (by omega) (by omega), ck_t, bn_d, r8, zn_cl (by omega), show gA (sI h 647 3000 (zI ↑(p + 1))) 3019 (p / 8) = zI ↑(b (p / 8)) from c1, bt_ok c2 (by omega)]
  rfl
theorem bit_out (S : MSrc h b n) (G : PG h p) (hp : 8 * n ≤ p) (hp2 : p < 100000) : fX6_bit F dd 3000 h = some (0, sI (sI h 649 3000 (zI ↑(0 : Nat))) 647 3000 (zI ↑(p + 1))) := by
  obtain ⟨g1, g2⟩ := G
  obtain ⟨M, s1, s2, s3⟩ := S
  unfold fX6_bit fX6_bit_19
  simp (disch := omega) only [mp607, mp608, mp609, mp611, mp612, mp613, mp614, mp615, mp616, mp617, mp618, mp619, mp620, mp621, mp622, mp625, mp626, mp631, mp632, mp633, mp636, mp637, mp638, mp639, mp640, mp641, mp642, mp643, mp645, mp646, mp650, mp651, mp652, mp653, mp654, mp655, mp656, mp657, mp658, ln3001, ln3002, ln3003, ln3004, ln3005, ln3006, ln3007, ln3008, ln3009, ln3010, ln3011, ln3012, ln3013, ln3014, ln3015, ln3016, ln3017, ln3018, ln3019, ln3020, ln3021, ln3022, ln3023, ln3024, ln3025, ln3026, ln3027, ln3028, ln3029, ln3030, ln3031, ln3032, ln3033, ln3034, ln3035, ln3036, ln3037, ln3038, ln3039, ck_t, nn_s, bn_d, ca_s, cv_s, oc_n, oc_s, cx_i, cx_r, cy_i, cy_r, gI_sI, gI_sP, gI_sA, gI_sR, gI_sJ, gI_nw, gI_nx, gP_sI, gP_sP, gP_sA, gP_sR, gP_sJ, gP_nw, gP_nx, gA_sI, gA_sP, gA_sA, gA_sR, gA_sJ, gA_nw, gA_nx, gR_sI, gR_sP, gR_sA, gR_sR, gR_sJ, gR_nw, gR_nx, reduceCtorEq, Nat.reduceEqDiff, or_self, or_true, true_or, or_false, false_or, eq_self, and_self, and_true, true_and, and_false, false_and, if_true, if_false, ↓reduceIte, ne_eq, not_true_eq_false, not_false_eq_true, zl0, zl1, zl2, zl3, zl4, zl5, zl6, zl7, zl8, zl9, zl10, zl12, zl15, zl16, zl20, zl31, zl32, zl48, zl97, zl99, zl100, zl120, zl127, zl128, zl129, zl130, zl137, zl150, zl160, zl169, zl254, zl255, zl256, zl4000, zl65535, zl65536, if_pos, if_neg, zn_inb, zn_cl, zn_eq, zn_lt, zn_le, zn_add, zn_sub, zn_mul, zn_addn, zn_eqn, zn_neq, zn_nlt, zn_nle, zn_ckb, isB_b2i, b2z0, b2z1, b2it, b2if, M.2, g1, g2, s1]
/-- some bits -/
theorem some_lp {k : Nat} (hk : k ≤ 32) : ∀ (r i nf : Nat) (h : Hp), i + r = k → r + 1 < nf → MSrc h b n → PG h (p + i) → p < 90000 → p + i ≤ 8 * n →
    ∃ x h', fX6_some_4 F dd nf 3000 (zI ↑k) (zI ↑(tkv b p i)) (zI ↑i) h = some (x, h') ∧ PQ h h' ∧ PR h' x (tk b (8 * n) p k) := by
  intro r
  induction r with
  | zero =>
    intro i nf h hi hf S G hp hn
    obtain ⟨f, rfl⟩ : ∃ f, nf = f + 1 := ⟨nf - 1, by omega⟩
    have e : i = k := by omega
    subst e
    refine ⟨zI ↑(tkv b p i), h, ?_, PQ.rf h, ?_⟩
    · rw [fX6_some_4]
      simp (disch := omega) only [mp607, mp608, mp609, mp611, mp612, mp613, mp614, mp615, mp616, mp617, mp618, mp619, mp620, mp621, mp622, mp625, mp626, mp631, mp632, mp633, mp636, mp637, mp638, mp639, mp640, mp641, mp642, mp643, mp645, mp646, mp650, mp651, mp652, mp653, mp654, mp655, mp656, mp657, mp658, ln3001, ln3002, ln3003, ln3004, ln3005, ln3006, ln3007, ln3008, ln3009, ln3010, ln3011, ln3012, ln3013, ln3014, ln3015, ln3016, ln3017, ln3018, ln3019, ln3020, ln3021, ln3022, ln3023, ln3024, ln3025, ln3026, ln3027, ln3028, ln3029, ln3030, ln3031, ln3032, ln3033, ln3034, ln3035, ln3036, ln3037, ln3038, ln3039, ck_t, nn_s, bn_d, ca_s, cv_s, oc_n, oc_s, cx_i, cx_r, cy_i, cy_r, gI_sI, gI_sP, gI_sA, gI_sR, gI_sJ, gI_nw, gI_nx, gP_sI, gP_sP, gP_sA, gP_sR, gP_sJ, gP_nw, gP_nx, gA_sI, gA_sP, gA_sA, gA_sR, gA_sJ, gA_nw, gA_nx, gR_sI, gR_sP, gR_sA, gR_sR, gR_sJ, gR_nw, gR_nx, reduceCtorEq, Nat.reduceEqDiff, or_self, or_true, true_or, or_false, false_or, eq_self, and_self, and_true, true_and, and_false, false_and, if_true, if_false, ↓reduceIte, ne_eq, not_true_eq_false, not_false_eq_true, zl0, zl1, zl2, zl3, zl4, zl5, zl6, zl7, zl8, zl9, zl10, zl12, zl15, zl16, zl20, zl31, zl32, zl48, zl97, zl99, zl100, zl120, zl127, zl128, zl129, zl130, zl137, zl150, zl160, zl169, zl254, zl255, zl256, zl4000, zl65535, zl65536, if_pos, if_neg, zn_inb, zn_cl, zn_eq, zn_lt, zn_le, zn_add, zn_sub, zn_mul, zn_addn, zn_eqn, zn_neq, zn_nlt, zn_nle, zn_ckb, isB_b2i, b2z0, b2z1, b2it, b2if]
    · unfold tk; rw [if_pos hn]; exact ⟨rfl, G⟩
  | succ r ih =>
    intro i nf h hi hf S G hp hn
    obtain ⟨f, rfl⟩ : ∃ f, nf = f + 1 := ⟨nf - 1, by omega⟩
    by_cases c : p + i < 8 * n
    · have e1 := bit_in (F := F) (dd := dd) S G c
      obtain ⟨x, h', e2, q, pr⟩ := ih (i + 1) f (sI h 647 3000 (zI ↑(p + i + 1))) (by omega) (by omega) ((PQ.s7 h _).ms S) ⟨by rw [gI_sI, if_pos ⟨rfl, rfl⟩]; rfl, by rw [gI_sI, if_neg (by omega)]; exact G.2⟩ hp (by omega)
      refine ⟨x, h', ?_, (PQ.s7 h _).tr q, pr⟩
      rw [← e2, fX6_some_4]
      simp (disch := omega) only [mp607, mp608, mp609, mp611, mp612, mp613, mp614, mp615, mp616, mp617, mp618, mp619, mp620, mp621, mp622, mp625, mp626, mp631, mp632, mp633, mp636, mp637, mp638, mp639, mp640, mp641, mp642, mp643, mp645, mp646, mp650, mp651, mp652, mp653, mp654, mp655, mp656, mp657, mp658, ln3001, ln3002, ln3003, ln3004, ln3005, ln3006, ln3007, ln3008, ln3009, ln3010, ln3011, ln3012, ln3013, ln3014, ln3015, ln3016, ln3017, ln3018, ln3019, ln3020, ln3021, ln3022, ln3023, ln3024, ln3025, ln3026, ln3027, ln3028, ln3029, ln3030, ln3031, ln3032, ln3033, ln3034, ln3035, ln3036, ln3037, ln3038, ln3039, ck_t, nn_s, bn_d, ca_s, cv_s, oc_n, oc_s, cx_i, cx_r, cy_i, cy_r, gI_sI, gI_sP, gI_sA, gI_sR, gI_sJ, gI_nw, gI_nx, gP_sI, gP_sP, gP_sA, gP_sR, gP_sJ, gP_nw, gP_nx, gA_sI, gA_sP, gA_sA, gA_sR, gA_sJ, gA_nw, gA_nx, gR_sI, gR_sP, gR_sA, gR_sR, gR_sJ, gR_nw, gR_nx, reduceCtorEq, Nat.reduceEqDiff, or_self, or_true, true_or, or_false, false_or, eq_self, and_self, and_true, true_and, and_false, false_and, if_true, if_false, ↓reduceIte, ne_eq, not_true_eq_false, not_false_eq_true, zl0, zl1, zl2, zl3, zl4, zl5, zl6, zl7, zl8, zl9, zl10, zl12, zl15, zl16, zl20, zl31, zl32, zl48, zl97, zl99, zl100, zl120, zl127, zl128, zl129, zl130, zl137, zl150, zl160, zl169, zl254, zl255, zl256, zl4000, zl65535, zl65536, if_pos, if_neg, zn_inb, zn_cl, zn_eq, zn_lt, zn_le, zn_add, zn_sub, zn_mul, zn_addn, zn_eqn, zn_neq, zn_nlt, zn_nle, zn_ckb, isB_b2i, b2z0, b2z1, b2it, b2if, G.2, e1]
      rfl
    · have e1 := bit_out (F := F) (dd := dd) S G (by omega) (by omega)
      refine ⟨zI ↑(2 * tkv b p i + 0), sI (sI h 649 3000 (zI ↑(0 : Nat))) 647 3000 (zI ↑(p + i + 1)), ?_, (PQ.s9 h (zI ↑(0 : Nat))).tr (PQ.s7 _ (zI ↑(p + i + 1))), ?_⟩
      · obtain ⟨f2, rfl⟩ : ∃ f2, f = f2 + 1 := ⟨f - 1, by omega⟩
        rw [fX6_some_4]
        simp (disch := omega) only [mp607, mp608, mp609, mp611, mp612, mp613, mp614, mp615, mp616, mp617, mp618, mp619, mp620, mp621, mp622, mp625, mp626, mp631, mp632, mp633, mp636, mp637, mp638, mp639, mp640, mp641, mp642, mp643, mp645, mp646, mp650, mp651, mp652, mp653, mp654, mp655, mp656, mp657, mp658, ln3001, ln3002, ln3003, ln3004, ln3005, ln3006, ln3007, ln3008, ln3009, ln3010, ln3011, ln3012, ln3013, ln3014, ln3015, ln3016, ln3017, ln3018, ln3019, ln3020, ln3021, ln3022, ln3023, ln3024, ln3025, ln3026, ln3027, ln3028, ln3029, ln3030, ln3031, ln3032, ln3033, ln3034, ln3035, ln3036, ln3037, ln3038, ln3039, ck_t, nn_s, bn_d, ca_s, cv_s, oc_n, oc_s, cx_i, cx_r, cy_i, cy_r, gI_sI, gI_sP, gI_sA, gI_sR, gI_sJ, gI_nw, gI_nx, gP_sI, gP_sP, gP_sA, gP_sR, gP_sJ, gP_nw, gP_nx, gA_sI, gA_sP, gA_sA, gA_sR, gA_sJ, gA_nw, gA_nx, gR_sI, gR_sP, gR_sA, gR_sR, gR_sJ, gR_nw, gR_nx, reduceCtorEq, Nat.reduceEqDiff, or_self, or_true, true_or, or_false, false_or, eq_self, and_self, and_true, true_and, and_false, false_and, if_true, if_false, ↓reduceIte, ne_eq, not_true_eq_false, not_false_eq_true, zl0, zl1, zl2, zl3, zl4, zl5, zl6, zl7, zl8, zl9, zl10, zl12, zl15, zl16, zl20, zl31, zl32, zl48, zl97, zl99, zl100, zl120, zl127, zl128, zl129, zl130, zl137, zl150, zl160, zl169, zl254, zl255, zl256, zl4000, zl65535, zl65536, if_pos, if_neg, zn_inb, zn_cl, zn_eq, zn_lt, zn_le, zn_add, zn_sub, zn_mul, zn_addn, zn_eqn, zn_neq, zn_nlt, zn_nle, zn_ckb, isB_b2i, b2z0, b2z1, b2it, b2if, G.2, e1]
        rw [fX6_some_4]
        by_cases cc : k ≤ i + 1
        · simp (disch := omega) only [mp607, mp608, mp609, mp611, mp612, mp613, mp614, mp615, mp616, mp617, mp618, mp619, mp620, mp621, mp622, mp625, mp626, mp631, mp632, mp633, mp636, mp637, mp638, mp639, mp640, mp641, mp642, mp643, mp645, mp646, mp650, mp651, mp652, mp653, mp654, mp655, mp656, mp657, mp658, ln3001, ln3002, ln3003, ln3004, ln3005, ln3006, ln3007, ln3008, ln3009, ln3010, ln3011, ln3012, ln3013, ln3014, ln3015, ln3016, ln3017, ln3018, ln3019, ln3020, ln3021, ln3022, ln3023, ln3024, ln3025, ln3026, ln3027, ln3028, ln3029, ln3030, ln3031, ln3032, ln3033, ln3034, ln3035, ln3036, ln3037, ln3038, ln3039, ck_t, nn_s, bn_d, ca_s, cv_s, oc_n, oc_s, cx_i, cx_r, cy_i, cy_r, gI_sI, gI_sP, gI_sA, gI_sR, gI_sJ, gI_nw, gI_nx, gP_sI, gP_sP, gP_sA, gP_sR, gP_sJ, gP_nw, gP_nx, gA_sI, gA_sP, gA_sA, gA_sR, gA_sJ, gA_nw, gA_nx, gR_sI, gR_sP, gR_sA, gR_sR, gR_sJ, gR_nw, gR_nx, reduceCtorEq, Nat.reduceEqDiff, or_self, or_true, true_or, or_false, false_or, eq_self, and_self, and_true, true_and, and_false, false_and, if_true, if_false, ↓reduceIte, ne_eq, not_true_eq_false, not_false_eq_true, zl0, zl1, zl2, zl3, zl4, zl5, zl6, zl7, zl8, zl9, zl10, zl12, zl15, zl16, zl20, zl31, zl32, zl48, zl97, zl99, zl100, zl120, zl127, zl128, zl129, zl130, zl137, zl150, zl160, zl169, zl254, zl255, zl256, zl4000, zl65535, zl65536, if_pos, if_neg, zn_inb, zn_cl, zn_eq, zn_lt, zn_le, zn_add, zn_sub, zn_mul, zn_addn, zn_eqn, zn_neq, zn_nlt, zn_nle, zn_ckb, isB_b2i, b2z0, b2z1, b2it, b2if]
        · simp (disch := omega) only [mp607, mp608, mp609, mp611, mp612, mp613, mp614, mp615, mp616, mp617, mp618, mp619, mp620, mp621, mp622, mp625, mp626, mp631, mp632, mp633, mp636, mp637, mp638, mp639, mp640, mp641, mp642, mp643, mp645, mp646, mp650, mp651, mp652, mp653, mp654, mp655, mp656, mp657, mp658, ln3001, ln3002, ln3003, ln3004, ln3005, ln3006, ln3007, ln3008, ln3009, ln3010, ln3011, ln3012, ln3013, ln3014, ln3015, ln3016, ln3017, ln3018, ln3019, ln3020, ln3021, ln3022, ln3023, ln3024, ln3025, ln3026, ln3027, ln3028, ln3029, ln3030, ln3031, ln3032, ln3033, ln3034, ln3035, ln3036, ln3037, ln3038, ln3039, ck_t, nn_s, bn_d, ca_s, cv_s, oc_n, oc_s, cx_i, cx_r, cy_i, cy_r, gI_sI, gI_sP, gI_sA, gI_sR, gI_sJ, gI_nw, gI_nx, gP_sI, gP_sP, gP_sA, gP_sR, gP_sJ, gP_nw, gP_nx, gA_sI, gA_sP, gA_sA, gA_sR, gA_sJ, gA_nw, gA_nx, gR_sI, gR_sP, gR_sA, gR_sR, gR_sJ, gR_nw, gR_nx, reduceCtorEq, Nat.reduceEqDiff, or_self, or_true, true_or, or_false, false_or, eq_self, and_self, and_true, true_and, and_false, false_and, if_true, if_false, ↓reduceIte, ne_eq, not_true_eq_false, not_false_eq_true, zl0, zl1, zl2, zl3, zl4, zl5, zl6, zl7, zl8, zl9, zl10, zl12, zl15, zl16, zl20, zl31, zl32, zl48, zl97, zl99, zl100, zl120, zl127, zl128, zl129, zl130, zl137, zl150, zl160, zl169, zl254, zl255, zl256, zl4000, zl65535, zl65536, if_pos, if_neg, zn_inb, zn_cl, zn_eq, zn_lt, zn_le, zn_add, zn_sub, zn_mul, zn_addn, zn_eqn, zn_neq, zn_nlt, zn_nle, zn_ckb, isB_b2i, b2z0, b2z1, b2it, b2if]
      · unfold tk; rw [if_neg (by omega)]
        show gI _ 649 3000 = _
        rw [gI_sI, if_neg (by omega), gI_sI, if_pos ⟨rfl, rfl⟩]
end Mb
