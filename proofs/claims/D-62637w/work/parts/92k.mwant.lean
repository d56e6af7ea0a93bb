/-! THE MODEL READS BITS (10): groups, choices, all of it -/
set_option maxRecDepth 100000
section Wn
variable {F dd n p fr m u N : Nat} {b : Nat → Nat} {τ : Tb}
theorem MK.push {h : Hp} (R : MK h n p fr m u) (hf : fr < 150) (x : Int32) :
    ∃ h', h' = sI (sA (sA (sA (sA (sA h 3031 fr x) 3032 fr 0) 3035 fr 0) 3033 fr 0) 3034 fr 0) 648 3000 (zI ↑(fr + 1)) ∧ MK h' n p (fr + 1) m u ∧ gA h' 3031 fr = x ∧ gA h' 3033 fr = zI ↑(0 : Nat) ∧ gA h' 3034 fr = zI ↑(0 : Nat) ∧ KM fr m u h h' := by
  obtain ⟨⟨r1, r2, r3, r4, r5⟩, r7, r8, r9, r10⟩ := R
  refine ⟨_, rfl, ⟨⟨?_, ?_, ?_, ?_, ?_⟩, by omega, r8, r9, r10⟩, ?_, ?_, ?_, ?_⟩
  · simp (disch := omega) only [mp607, mp608, mp609, mp611, mp612, mp613, mp614, mp615, mp616, mp617, mp618, mp619, mp620, mp621, mp622, mp625, mp626, mp631, mp632, mp633, mp636, mp637, mp638, mp639, mp640, mp641, mp642, mp643, mp645, mp646, mp650, mp651, mp652, mp653, mp654, mp655, mp656, mp657, mp658, ln3001, ln3002, ln3003, ln3004, ln3005, ln3006, ln3007, ln3008, ln3009, ln3010, ln3011, ln3012, ln3013, ln3014, ln3015, ln3016, ln3017, ln3018, ln3019, ln3020, ln3021, ln3022, ln3023, ln3024, ln3025, ln3026, ln3027, ln3028, ln3029, ln3030, ln3031, ln3032, ln3033, ln3034, ln3035, ln3036, ln3037, ln3038, ln3039, ck_t, nn_s, bn_d, ca_s, cv_s, oc_n, oc_s, cx_i, cx_r, cy_i, cy_r, gI_sI, gI_sP, gI_sA, gI_sR, gI_sJ, gI_nw, gI_nx, gP_sI, gP_sP, gP_sA, gP_sR, gP_sJ, gP_nw, gP_nx, gA_sI, gA_sP, gA_sA, gA_sR, gA_sJ, gA_nw, gA_nx, gR_sI, gR_sP, gR_sA, gR_sR, gR_sJ, gR_nw, gR_nx, reduceCtorEq, Nat.reduceEqDiff, or_self, or_true, true_or, or_false, false_or, eq_self, and_self, and_true, true_and, and_false, false_and, if_true, if_false, ↓reduceIte, ne_eq, not_true_eq_false, not_false_eq_true, zl0, zl1, zl2, zl3, zl4, zl5, zl6, zl7, zl8, zl9, zl10, zl12, zl15, zl16, zl20, zl31, zl32, zl48, zl97, zl99, zl100, zl120, zl127, zl128, zl129, zl130, zl137, zl150, zl160, zl169, zl254, zl255, zl256, zl4000, zl65535, zl65536, if_pos, if_neg, zn_inb, zn_cl, zn_eq, zn_lt, zn_le, zn_add, zn_sub, zn_mul, zn_addn, zn_eqn, zn_neq, zn_nlt, zn_nle, zn_ckb, isB_b2i, b2z0, b2z1, b2it, b2if, r1]
  · simp (disch := omega) only [mp607, mp608, mp609, mp611, mp612, mp613, mp614, mp615, mp616, mp617, mp618, mp619, mp620, mp621, mp622, mp625, mp626, mp631, mp632, mp633, mp636, mp637, mp638, mp639, mp640, mp641, mp642, mp643, mp645, mp646, mp650, mp651, mp652, mp653, mp654, mp655, mp656, mp657, mp658, ln3001, ln3002, ln3003, ln3004, ln3005, ln3006, ln3007, ln3008, ln3009, ln3010, ln3011, ln3012, ln3013, ln3014, ln3015, ln3016, ln3017, ln3018, ln3019, ln3020, ln3021, ln3022, ln3023, ln3024, ln3025, ln3026, ln3027, ln3028, ln3029, ln3030, ln3031, ln3032, ln3033, ln3034, ln3035, ln3036, ln3037, ln3038, ln3039, ck_t, nn_s, bn_d, ca_s, cv_s, oc_n, oc_s, cx_i, cx_r, cy_i, cy_r, gI_sI, gI_sP, gI_sA, gI_sR, gI_sJ, gI_nw, gI_nx, gP_sI, gP_sP, gP_sA, gP_sR, gP_sJ, gP_nw, gP_nx, gA_sI, gA_sP, gA_sA, gA_sR, gA_sJ, gA_nw, gA_nx, gR_sI, gR_sP, gR_sA, gR_sR, gR_sJ, gR_nw, gR_nx, reduceCtorEq, Nat.reduceEqDiff, or_self, or_true, true_or, or_false, false_or, eq_self, and_self, and_true, true_and, and_false, false_and, if_true, if_false, ↓reduceIte, ne_eq, not_true_eq_false, not_false_eq_true, zl0, zl1, zl2, zl3, zl4, zl5, zl6, zl7, zl8, zl9, zl10, zl12, zl15, zl16, zl20, zl31, zl32, zl48, zl97, zl99, zl100, zl120, zl127, zl128, zl129, zl130, zl137, zl150, zl160, zl169, zl254, zl255, zl256, zl4000, zl65535, zl65536, if_pos, if_neg, zn_inb, zn_cl, zn_eq, zn_lt, zn_le, zn_add, zn_sub, zn_mul, zn_addn, zn_eqn, zn_neq, zn_nlt, zn_nle, zn_ckb, isB_b2i, b2z0, b2z1, b2it, b2if]
  · simp (disch := omega) only [mp607, mp608, mp609, mp611, mp612, mp613, mp614, mp615, mp616, mp617, mp618, mp619, mp620, mp621, mp622, mp625, mp626, mp631, mp632, mp633, mp636, mp637, mp638, mp639, mp640, mp641, mp642, mp643, mp645, mp646, mp650, mp651, mp652, mp653, mp654, mp655, mp656, mp657, mp658, ln3001, ln3002, ln3003, ln3004, ln3005, ln3006, ln3007, ln3008, ln3009, ln3010, ln3011, ln3012, ln3013, ln3014, ln3015, ln3016, ln3017, ln3018, ln3019, ln3020, ln3021, ln3022, ln3023, ln3024, ln3025, ln3026, ln3027, ln3028, ln3029, ln3030, ln3031, ln3032, ln3033, ln3034, ln3035, ln3036, ln3037, ln3038, ln3039, ck_t, nn_s, bn_d, ca_s, cv_s, oc_n, oc_s, cx_i, cx_r, cy_i, cy_r, gI_sI, gI_sP, gI_sA, gI_sR, gI_sJ, gI_nw, gI_nx, gP_sI, gP_sP, gP_sA, gP_sR, gP_sJ, gP_nw, gP_nx, gA_sI, gA_sP, gA_sA, gA_sR, gA_sJ, gA_nw, gA_nx, gR_sI, gR_sP, gR_sA, gR_sR, gR_sJ, gR_nw, gR_nx, reduceCtorEq, Nat.reduceEqDiff, or_self, or_true, true_or, or_false, false_or, eq_self, and_self, and_true, true_and, and_false, false_and, if_true, if_false, ↓reduceIte, ne_eq, not_true_eq_false, not_false_eq_true, zl0, zl1, zl2, zl3, zl4, zl5, zl6, zl7, zl8, zl9, zl10, zl12, zl15, zl16, zl20, zl31, zl32, zl48, zl97, zl99, zl100, zl120, zl127, zl128, zl129, zl130, zl137, zl150, zl160, zl169, zl254, zl255, zl256, zl4000, zl65535, zl65536, if_pos, if_neg, zn_inb, zn_cl, zn_eq, zn_lt, zn_le, zn_add, zn_sub, zn_mul, zn_addn, zn_eqn, zn_neq, zn_nlt, zn_nle, zn_ckb, isB_b2i, b2z0, b2z1, b2it, b2if, r3]
  · simp (disch := omega) only [mp607, mp608, mp609, mp611, mp612, mp613, mp614, mp615, mp616, mp617, mp618, mp619, mp620, mp621, mp622, mp625, mp626, mp631, mp632, mp633, mp636, mp637, mp638, mp639, mp640, mp641, mp642, mp643, mp645, mp646, mp650, mp651, mp652, mp653, mp654, mp655, mp656, mp657, mp658, ln3001, ln3002, ln3003, ln3004, ln3005, ln3006, ln3007, ln3008, ln3009, ln3010, ln3011, ln3012, ln3013, ln3014, ln3015, ln3016, ln3017, ln3018, ln3019, ln3020, ln3021, ln3022, ln3023, ln3024, ln3025, ln3026, ln3027, ln3028, ln3029, ln3030, ln3031, ln3032, ln3033, ln3034, ln3035, ln3036, ln3037, ln3038, ln3039, ck_t, nn_s, bn_d, ca_s, cv_s, oc_n, oc_s, cx_i, cx_r, cy_i, cy_r, gI_sI, gI_sP, gI_sA, gI_sR, gI_sJ, gI_nw, gI_nx, gP_sI, gP_sP, gP_sA, gP_sR, gP_sJ, gP_nw, gP_nx, gA_sI, gA_sP, gA_sA, gA_sR, gA_sJ, gA_nw, gA_nx, gR_sI, gR_sP, gR_sA, gR_sR, gR_sJ, gR_nw, gR_nx, reduceCtorEq, Nat.reduceEqDiff, or_self, or_true, true_or, or_false, false_or, eq_self, and_self, and_true, true_and, and_false, false_and, if_true, if_false, ↓reduceIte, ne_eq, not_true_eq_false, not_false_eq_true, zl0, zl1, zl2, zl3, zl4, zl5, zl6, zl7, zl8, zl9, zl10, zl12, zl15, zl16, zl20, zl31, zl32, zl48, zl97, zl99, zl100, zl120, zl127, zl128, zl129, zl130, zl137, zl150, zl160, zl169, zl254, zl255, zl256, zl4000, zl65535, zl65536, if_pos, if_neg, zn_inb, zn_cl, zn_eq, zn_lt, zn_le, zn_add, zn_sub, zn_mul, zn_addn, zn_eqn, zn_neq, zn_nlt, zn_nle, zn_ckb, isB_b2i, b2z0, b2z1, b2it, b2if, r4]
  · simp (disch := omega) only [mp607, mp608, mp609, mp611, mp612, mp613, mp614, mp615, mp616, mp617, mp618, mp619, mp620, mp621, mp622, mp625, mp626, mp631, mp632, mp633, mp636, mp637, mp638, mp639, mp640, mp641, mp642, mp643, mp645, mp646, mp650, mp651, mp652, mp653, mp654, mp655, mp656, mp657, mp658, ln3001, ln3002, ln3003, ln3004, ln3005, ln3006, ln3007, ln3008, ln3009, ln3010, ln3011, ln3012, ln3013, ln3014, ln3015, ln3016, ln3017, ln3018, ln3019, ln3020, ln3021, ln3022, ln3023, ln3024, ln3025, ln3026, ln3027, ln3028, ln3029, ln3030, ln3031, ln3032, ln3033, ln3034, ln3035, ln3036, ln3037, ln3038, ln3039, ck_t, nn_s, bn_d, ca_s, cv_s, oc_n, oc_s, cx_i, cx_r, cy_i, cy_r, gI_sI, gI_sP, gI_sA, gI_sR, gI_sJ, gI_nw, gI_nx, gP_sI, gP_sP, gP_sA, gP_sR, gP_sJ, gP_nw, gP_nx, gA_sI, gA_sP, gA_sA, gA_sR, gA_sJ, gA_nw, gA_nx, gR_sI, gR_sP, gR_sA, gR_sR, gR_sJ, gR_nw, gR_nx, reduceCtorEq, Nat.reduceEqDiff, or_self, or_true, true_or, or_false, false_or, eq_self, and_self, and_true, true_and, and_false, false_and, if_true, if_false, ↓reduceIte, ne_eq, not_true_eq_false, not_false_eq_true, zl0, zl1, zl2, zl3, zl4, zl5, zl6, zl7, zl8, zl9, zl10, zl12, zl15, zl16, zl20, zl31, zl32, zl48, zl97, zl99, zl100, zl120, zl127, zl128, zl129, zl130, zl137, zl150, zl160, zl169, zl254, zl255, zl256, zl4000, zl65535, zl65536, if_pos, if_neg, zn_inb, zn_cl, zn_eq, zn_lt, zn_le, zn_add, zn_sub, zn_mul, zn_addn, zn_eqn, zn_neq, zn_nlt, zn_nle, zn_ckb, isB_b2i, b2z0, b2z1, b2it, b2if, r5]
  · simp (disch := omega) only [mp607, mp608, mp609, mp611, mp612, mp613, mp614, mp615, mp616, mp617, mp618, mp619, mp620, mp621, mp622, mp625, mp626, mp631, mp632, mp633, mp636, mp637, mp638, mp639, mp640, mp641, mp642, mp643, mp645, mp646, mp650, mp651, mp652, mp653, mp654, mp655, mp656, mp657, mp658, ln3001, ln3002, ln3003, ln3004, ln3005, ln3006, ln3007, ln3008, ln3009, ln3010, ln3011, ln3012, ln3013, ln3014, ln3015, ln3016, ln3017, ln3018, ln3019, ln3020, ln3021, ln3022, ln3023, ln3024, ln3025, ln3026, ln3027, ln3028, ln3029, ln3030, ln3031, ln3032, ln3033, ln3034, ln3035, ln3036, ln3037, ln3038, ln3039, ck_t, nn_s, bn_d, ca_s, cv_s, oc_n, oc_s, cx_i, cx_r, cy_i, cy_r, gI_sI, gI_sP, gI_sA, gI_sR, gI_sJ, gI_nw, gI_nx, gP_sI, gP_sP, gP_sA, gP_sR, gP_sJ, gP_nw, gP_nx, gA_sI, gA_sP, gA_sA, gA_sR, gA_sJ, gA_nw, gA_nx, gR_sI, gR_sP, gR_sA, gR_sR, gR_sJ, gR_nw, gR_nx, reduceCtorEq, Nat.reduceEqDiff, or_self, or_true, true_or, or_false, false_or, eq_self, and_self, and_true, true_and, and_false, false_and, if_true, if_false, ↓reduceIte, ne_eq, not_true_eq_false, not_false_eq_true, zl0, zl1, zl2, zl3, zl4, zl5, zl6, zl7, zl8, zl9, zl10, zl12, zl15, zl16, zl20, zl31, zl32, zl48, zl97, zl99, zl100, zl120, zl127, zl128, zl129, zl130, zl137, zl150, zl160, zl169, zl254, zl255, zl256, zl4000, zl65535, zl65536, if_pos, if_neg, zn_inb, zn_cl, zn_eq, zn_lt, zn_le, zn_add, zn_sub, zn_mul, zn_addn, zn_eqn, zn_neq, zn_nlt, zn_nle, zn_ckb, isB_b2i, b2z0, b2z1, b2it, b2if]
  · simp (disch := omega) only [mp607, mp608, mp609, mp611, mp612, mp613, mp614, mp615, mp616, mp617, mp618, mp619, mp620, mp621, mp622, mp625, mp626, mp631, mp632, mp633, mp636, mp637, mp638, mp639, mp640, mp641, mp642, mp643, mp645, mp646, mp650, mp651, mp652, mp653, mp654, mp655, mp656, mp657, mp658, ln3001, ln3002, ln3003, ln3004, ln3005, ln3006, ln3007, ln3008, ln3009, ln3010, ln3011, ln3012, ln3013, ln3014, ln3015, ln3016, ln3017, ln3018, ln3019, ln3020, ln3021, ln3022, ln3023, ln3024, ln3025, ln3026, ln3027, ln3028, ln3029, ln3030, ln3031, ln3032, ln3033, ln3034, ln3035, ln3036, ln3037, ln3038, ln3039, ck_t, nn_s, bn_d, ca_s, cv_s, oc_n, oc_s, cx_i, cx_r, cy_i, cy_r, gI_sI, gI_sP, gI_sA, gI_sR, gI_sJ, gI_nw, gI_nx, gP_sI, gP_sP, gP_sA, gP_sR, gP_sJ, gP_nw, gP_nx, gA_sI, gA_sP, gA_sA, gA_sR, gA_sJ, gA_nw, gA_nx, gR_sI, gR_sP, gR_sA, gR_sR, gR_sJ, gR_nw, gR_nx, reduceCtorEq, Nat.reduceEqDiff, or_self, or_true, true_or, or_false, false_or, eq_self, and_self, and_true, true_and, and_false, false_and, if_true, if_false, ↓reduceIte, ne_eq, not_true_eq_false, not_false_eq_true, zl0, zl1, zl2, zl3, zl4, zl5, zl6, zl7, zl8, zl9, zl10, zl12, zl15, zl16, zl20, zl31, zl32, zl48, zl97, zl99, zl100, zl120, zl127, zl128, zl129, zl130, zl137, zl150, zl160, zl169, zl254, zl255, zl256, zl4000, zl65535, zl65536, if_pos, if_neg, zn_inb, zn_cl, zn_eq, zn_lt, zn_le, zn_add, zn_sub, zn_mul, zn_addn, zn_eqn, zn_neq, zn_nlt, zn_nle, zn_ckb, isB_b2i, b2z0, b2z1, b2it, b2if]
  · simp (disch := omega) only [mp607, mp608, mp609, mp611, mp612, mp613, mp614, mp615, mp616, mp617, mp618, mp619, mp620, mp621, mp622, mp625, mp626, mp631, mp632, mp633, mp636, mp637, mp638, mp639, mp640, mp641, mp642, mp643, mp645, mp646, mp650, mp651, mp652, mp653, mp654, mp655, mp656, mp657, mp658, ln3001, ln3002, ln3003, ln3004, ln3005, ln3006, ln3007, ln3008, ln3009, ln3010, ln3011, ln3012, ln3013, ln3014, ln3015, ln3016, ln3017, ln3018, ln3019, ln3020, ln3021, ln3022, ln3023, ln3024, ln3025, ln3026, ln3027, ln3028, ln3029, ln3030, ln3031, ln3032, ln3033, ln3034, ln3035, ln3036, ln3037, ln3038, ln3039, ck_t, nn_s, bn_d, ca_s, cv_s, oc_n, oc_s, cx_i, cx_r, cy_i, cy_r, gI_sI, gI_sP, gI_sA, gI_sR, gI_sJ, gI_nw, gI_nx, gP_sI, gP_sP, gP_sA, gP_sR, gP_sJ, gP_nw, gP_nx, gA_sI, gA_sP, gA_sA, gA_sR, gA_sJ, gA_nw, gA_nx, gR_sI, gR_sP, gR_sA, gR_sR, gR_sJ, gR_nw, gR_nx, reduceCtorEq, Nat.reduceEqDiff, or_self, or_true, true_or, or_false, false_or, eq_self, and_self, and_true, true_and, and_false, false_and, if_true, if_false, ↓reduceIte, ne_eq, not_true_eq_false, not_false_eq_true, zl0, zl1, zl2, zl3, zl4, zl5, zl6, zl7, zl8, zl9, zl10, zl12, zl15, zl16, zl20, zl31, zl32, zl48, zl97, zl99, zl100, zl120, zl127, zl128, zl129, zl130, zl137, zl150, zl160, zl169, zl254, zl255, zl256, zl4000, zl65535, zl65536, if_pos, if_neg, zn_inb, zn_cl, zn_eq, zn_lt, zn_le, zn_add, zn_sub, zn_mul, zn_addn, zn_eqn, zn_neq, zn_nlt, zn_nle, zn_ckb, isB_b2i, b2z0, b2z1, b2it, b2if]
  · exact (((((KM.rf fr m u h).sA (by decide) (fun _ _ => Nat.le_refl _) (fun _ _ => by omega) (fun _ => by omega)).sA (by decide) (fun _ _ => Nat.le_refl _) (fun _ _ => by omega) (fun _ => by omega)).sA (by decide) (fun _ _ => Nat.le_refl _) (fun _ _ => by omega) (fun _ => by omega)).sA (by decide) (fun _ _ => Nat.le_refl _) (fun _ _ => by omega) (fun _ => by omega)).sA (by decide) (fun _ _ => Nat.le_refl _) (fun _ _ => by omega) (fun _ => by omega) |>.sI (by decide)
theorem fnU_nil {q d : Nat} (x : Option (List (Nat × Vt d) × Nat)) : fnU q [] x = match x with | none => none | some (ks, p2) => some (mkV q (Int32.ofNat ks.length) [] ks, p2) := by
  cases x with
  | none => rfl
  | some z => obtain ⟨ks, p2⟩ := z; simp only [fnU, List.length_nil, Nat.zero_add, List.nil_append]
/-- the way to a group's marks -/
theorem w_grp {h h2 : Hp} {t as q : Nat} {of : Int32} (e2 : fX6_adds F dd 3000 (zI ↑t) of (zI ↑as) 0 h = some (zI ↑m, h2)) (M : MP h2) (T : MT h2 τ N) (hq : q < N) (R2 : MK h2 n p fr (m + 1) u) (b2 : gI h2 623 3000 = zI ↑q) (hm : m < 100) (hf : fr < 150) (k : tK τ q = 6 ∨ tK τ q = 7) :
    fX6_want_128 F dd 3000 (zI ↑t) of (zI ↑as) h = fX6_want_382 F dd F 3000 (zI ↑m) (zI ↑q) (zI ↑(6 * q)) (sI (sA (sA (sA (sA (sA h2 3031 fr (zI ↑m)) 3032 fr 0) 3035 fr 0) 3033 fr 0) 3034 fr 0) 648 3000 (zI ↑(fr + 1))) := by
  have hN := T.1
  obtain ⟨⟨a1, -⟩, -⟩ := T.2 q hq
  have fo : fX6_frame F dd 3000 (zI ↑m) 0 0 h2 = some (sI (sA (sA (sA (sA (sA h2 3031 fr (zI ↑m)) 3032 fr 0) 3035 fr 0) 3033 fr 0) 3034 fr 0) 648 3000 (zI ↑(fr + 1))) := frame_ok (F := F) (d := dd) M R2.1.2.1 (by omega) (zI ↑m) 0 0 (by decide)
  have e6 : (6 : Int32) * zI ↑q = zI ↑(6 * q) := by rw [zl6, zn_mul]
  unfold fX6_want_128
  rw [e2, ca_s, bn_d, b2, R2.1.2.2.1, if_neg (by decide)]
  rcases k with k | k
  · simp only [M.2, mp611, nn_s, ln3004, zn_inb (show q < 160 by omega) (by omega), ck_t, zn_cl (show q < 2147483648 by omega), a1, k]
    rw [if_neg (by decide), if_neg (by decide), if_neg (by decide), if_pos (by decide)]
    unfold fX6_want_367
    rw [fo, cv_s, bn_d, e6]
  · simp only [M.2, mp611, nn_s, ln3004, zn_inb (show q < 160 by omega) (by omega), ck_t, zn_cl (show q < 2147483648 by omega), a1, k]
    rw [if_neg (by decide), if_neg (by decide), if_neg (by decide), if_neg (by decide), if_pos (by decide)]
    unfold fX6_want_367
    rw [fo, cv_s, bn_d, e6]
theorem w_sq {h : Hp} {t as q d jt jb : Nat} {of : Int32} (EO : WnOK F dd τ b n N jb (d + 1)) (S : MSrc h b n) (R : MK h n p fr m u) (T : MT h τ N) (ht : t < N) (w : WFt τ jt t) (hj : jt ≤ 12) (hq : q < N) (hb : gI h 623 3000 = zI ↑q) (hqt : bas τ 200 t = q) (wq : WFt τ (jb + 1) q) (k6 : tK τ q = 6) (hfr : fr + 1 + jb ≤ 150) (hF : 1000 ≤ F) :
    ∃ h1, fX6_want_128 F dd 3000 (zI ↑t) of (zI ↑as) h = some h1 ∧ RU F dd τ t as of h h1 (9 * m) n fr m u (up b (8 * n) τ false (d + 2) t p m) := by
  have hn := S.2.2.1
  have hN := T.1
  have r8 := R.2.2.1
  have w6 := wq.seq k6
  obtain ⟨H1, H2⟩ := w128_in (F := F) (dd := dd) (t := t) (as := as) (of := of) S R
  rw [up, hqt]
  by_cases hm : m < 100
  · obtain ⟨h2, e2, R2, P2, K2, b2⟩ := H1 hm
    rw [hb] at b2
    have S2 := K2.ms S
    have T2 := K2.mt T
    rw [if_pos hm, if_neg (by omega), if_pos k6, w_grp e2 S2.1 T2 hq R2 b2 hm (by omega) (Or.inl k6)]
    obtain ⟨h3, e3, R3, f1, f2, f3, K3⟩ := R2.push (show fr < 150 by omega) (zI ↑m)
    rw [← e3]
    have K23 : KM fr m u h h3 := K2.tr (Nat.le_refl _) (Nat.le_succ _) (Nat.le_refl _) K3
    obtain ⟨h4, e4, Q4, z4⟩ := mk_g (F := F) (dd := dd) (m0 := m) hq k6 w6.1 (fun k hk => (w6.2 k hk).1) (show fr < 150 by omega) (tN τ q) 0 F h3 p [] (K23.ms S) (K23.mt T) R3 f3 rfl (by omega) (by omega)
    rw [Nat.add_zero] at e4
    rw [e4]
    have K4 : KM fr (m + 1) u h2 h4 := K3.tr (Nat.le_refl _) (Nat.le_refl _) (Nat.le_refl _) (FQ.km Q4)
    have S4 := K4.ms S2
    have T4 := K4.mt T2
    obtain ⟨⟨a1, -⟩, -⟩ := T4.2 q hq
    have E5 : fX6_want_461 F dd 3000 (zI ↑m) (zI ↑q) h4 = some (sA h4 3022 m 0) := by
      unfold fX6_want_461
      simp (disch := omega) only [mp607, mp608, mp609, mp611, mp612, mp613, mp614, mp615, mp616, mp617, mp618, mp619, mp620, mp621, mp622, mp625, mp626, mp631, mp632, mp633, mp636, mp637, mp638, mp639, mp640, mp641, mp642, mp643, mp645, mp646, mp650, mp651, mp652, mp653, mp654, mp655, mp656, mp657, mp658, ln3001, ln3002, ln3003, ln3004, ln3005, ln3006, ln3007, ln3008, ln3009, ln3010, ln3011, ln3012, ln3013, ln3014, ln3015, ln3016, ln3017, ln3018, ln3019, ln3020, ln3021, ln3022, ln3023, ln3024, ln3025, ln3026, ln3027, ln3028, ln3029, ln3030, ln3031, ln3032, ln3033, ln3034, ln3035, ln3036, ln3037, ln3038, ln3039, ck_t, nn_s, bn_d, ca_s, cv_s, oc_n, oc_s, cx_i, cx_r, cy_i, cy_r, gI_sI, gI_sP, gI_sA, gI_sR, gI_sJ, gI_nw, gI_nx, gP_sI, gP_sP, gP_sA, gP_sR, gP_sJ, gP_nw, gP_nx, gA_sI, gA_sP, gA_sA, gA_sR, gA_sJ, gA_nw, gA_nx, gR_sI, gR_sP, gR_sA, gR_sR, gR_sJ, gR_nw, gR_nx, reduceCtorEq, Nat.reduceEqDiff, or_self, or_true, true_or, or_false, false_or, eq_self, and_self, and_true, true_and, and_false, false_and, if_true, if_false, ↓reduceIte, ne_eq, not_true_eq_false, not_false_eq_true, zl0, zl1, zl2, zl3, zl4, zl5, zl6, zl7, zl8, zl9, zl10, zl12, zl15, zl16, zl20, zl31, zl32, zl48, zl97, zl99, zl100, zl120, zl127, zl128, zl129, zl130, zl137, zl150, zl160, zl169, zl254, zl255, zl256, zl4000, zl65535, zl65536, if_pos, if_neg, zn_inb, zn_cl, zn_eq, zn_lt, zn_le, zn_add, zn_sub, zn_mul, zn_addn, zn_eqn, zn_neq, zn_nlt, zn_nle, zn_ckb, isB_b2i, b2z0, b2z1, b2it, b2if, S4.1.2, a1, k6]
    rw [E5]
    refine ⟨_, rfl, ?_⟩
    cases hmk : mks b (8 * n) τ q (tN τ q) 0 p with
    | none =>
      rw [hmk] at z4
      exact RU.bad (show Bad (sA h4 3022 m 0) from z4) (by omega)
    | some z =>
      obtain ⟨L, p1⟩ := z
      rw [hmk] at z4
      obtain ⟨R4, z5, z6⟩ := z4
      rw [List.nil_append] at z5
      have K5 : KM fr m u h (sA h4 3022 m 0) := ((K2.tr (Nat.le_refl _) (Nat.le_succ _) (Nat.le_refl _) K4).sA (by decide) (fun _ _ => by omega) (fun _ _ => Nat.le_refl _) (fun _ => by omega))
      have P4 := P2.km K4 (by omega)
      obtain ⟨p1', p2', p3', p4', p5'⟩ := P4
      have G : GU b τ n N h (sA h4 3022 m 0) t as of q fr m u p1 (zI ↑([] : List (Nat × Vt (d + 1))).length) ([] : List (Nat × Vt (d + 1))) :=
        ⟨K5.ms S, K5.mt T, R4, by rw [gA_sA, if_neg (by omega), Q4.2.2 _ _ (by omega)]; exact f1, ⟨by rw [gA_sA, if_neg (by omega)]; exact p1', by rw [gA_sA, if_neg (by omega)]; exact p2', by rw [gA_sA, if_neg (by omega)]; exact p3', by rw [gA_sA, if_pos ⟨rfl, rfl⟩]; rfl, by rw [gA_sA, if_neg (by omega)]; exact p5'⟩, trivial, K5⟩
      have I := usq_run (F := F) (dd := dd) (L := L) EO ht w hj hqt wq k6 hm hfr hF z6 (tN τ q) 0 (sA h4 3022 m 0) p1 [] G (by rw [gA_sA, if_neg (by omega), Q4.2.2 _ _ (by omega)]; exact f2) (by rw [gA_sA, if_neg (by omega)]; exact z5) (by simp) (by omega)
      rw [fnU_nil] at I
      exact I
  · obtain ⟨h2, e2, B2⟩ := H2 hm
    rw [if_neg hm]
    exact ⟨h2, e2, RU.bad B2 (by omega)⟩
theorem w_ls {h : Hp} {t as q d jt jb : Nat} {of : Int32} (EO : WnOK F dd τ b n N jb d) (S : MSrc h b n) (R : MK h n p fr m u) (T : MT h τ N) (ht : t < N) (w : WFt τ jt t) (hj : jt ≤ 12) (hq : q < N) (hb : gI h 623 3000 = zI ↑q) (hqt : bas τ 200 t = q) (wq : WFt τ (jb + 1) q) (k7 : tK τ q = 7) (hfr : fr + 1 + jb ≤ 150) (hF : 1000 ≤ F) :
    ∃ h1, fX6_want_128 F dd 3000 (zI ↑t) of (zI ↑as) h = some h1 ∧ RU F dd τ t as of h h1 (9 * m) n fr m u (up b (8 * n) τ false (d + 1) t p m) := by
  have hn := S.2.2.1
  have hN := T.1
  have r8 := R.2.2.1
  have w7 := wq.lst k7
  obtain ⟨H1, H2⟩ := w128_in (F := F) (dd := dd) (t := t) (as := as) (of := of) S R
  rw [up, hqt]
  by_cases hm : m < 100
  · obtain ⟨h2, e2, R2, P2, K2, b2⟩ := H1 hm
    rw [hb] at b2
    have S2 := K2.ms S
    have T2 := K2.mt T
    rw [if_pos hm, if_neg (by omega), if_neg (by omega), if_pos k7, w_grp e2 S2.1 T2 hq R2 b2 hm (by omega) (Or.inr k7)]
    obtain ⟨h3, e3, R3, f1, f2, f3, K3⟩ := R2.push (show fr < 150 by omega) (zI ↑m)
    rw [← e3]
    have K23 : KM fr m u h h3 := K2.tr (Nat.le_refl _) (Nat.le_succ _) (Nat.le_refl _) K3
    have S3 := K23.ms S
    have T3 := K23.mt T
    obtain ⟨⟨a1, a2, -⟩, -, -, a8, -⟩ := T3.2 q hq
    have n1 := a8 (Or.inl k7)
    obtain ⟨x, h4, e4, q4, r4⟩ := mcnt_ok (F := F) (dd := dd) S3 T3 hq w7.1 R3.pg R3.2.2.2.2 hF
    obtain ⟨f, hf⟩ : ∃ f, F = f + 1 := ⟨F - 1, by omega⟩
    have E5 : fX6_want_382 F dd F 3000 (zI ↑m) (zI ↑q) (zI ↑(6 * q)) h3 = some (sA h4 3022 m x) := by
      have : fX6_want_382 F dd (f + 1) 3000 (zI ↑m) (zI ↑q) (zI ↑(6 * q)) h3 = some (sA h4 3022 m x) := by
        rw [fX6_want_382]
        unfold fX6_want_461
        simp (disch := omega) only [mp607, mp608, mp609, mp611, mp612, mp613, mp614, mp615, mp616, mp617, mp618, mp619, mp620, mp621, mp622, mp625, mp626, mp631, mp632, mp633, mp636, mp637, mp638, mp639, mp640, mp641, mp642, mp643, mp645, mp646, mp650, mp651, mp652, mp653, mp654, mp655, mp656, mp657, mp658, ln3001, ln3002, ln3003, ln3004, ln3005, ln3006, ln3007, ln3008, ln3009, ln3010, ln3011, ln3012, ln3013, ln3014, ln3015, ln3016, ln3017, ln3018, ln3019, ln3020, ln3021, ln3022, ln3023, ln3024, ln3025, ln3026, ln3027, ln3028, ln3029, ln3030, ln3031, ln3032, ln3033, ln3034, ln3035, ln3036, ln3037, ln3038, ln3039, ck_t, nn_s, bn_d, ca_s, cv_s, oc_n, oc_s, cx_i, cx_r, cy_i, cy_r, gI_sI, gI_sP, gI_sA, gI_sR, gI_sJ, gI_nw, gI_nx, gP_sI, gP_sP, gP_sA, gP_sR, gP_sJ, gP_nw, gP_nx, gA_sI, gA_sP, gA_sA, gA_sR, gA_sJ, gA_nw, gA_nx, gR_sI, gR_sP, gR_sA, gR_sR, gR_sJ, gR_nw, gR_nx, reduceCtorEq, Nat.reduceEqDiff, or_self, or_true, true_or, or_false, false_or, eq_self, and_self, and_true, true_and, and_false, false_and, if_true, if_false, ↓reduceIte, ne_eq, not_true_eq_false, not_false_eq_true, zl0, zl1, zl2, zl3, zl4, zl5, zl6, zl7, zl8, zl9, zl10, zl12, zl15, zl16, zl20, zl31, zl32, zl48, zl97, zl99, zl100, zl120, zl127, zl128, zl129, zl130, zl137, zl150, zl160, zl169, zl254, zl255, zl256, zl4000, zl65535, zl65536, if_pos, if_neg, zn_inb, zn_cl, zn_eq, zn_lt, zn_le, zn_add, zn_sub, zn_mul, zn_addn, zn_eqn, zn_neq, zn_nlt, zn_nle, zn_ckb, isB_b2i, b2z0, b2z1, b2it, b2if, S3.1.2, a1, a2, n1, k7, e4]
      rw [← hf] at this
      exact this
    rw [E5]
    refine ⟨_, rfl, ?_⟩
    cases hc : cnt b (8 * n) τ q p with
    | none =>
      rw [hc] at r4
      exact RU.bad (show Bad (sA h4 3022 m x) from r4) (by omega)
    | some z =>
      obtain ⟨y, p1⟩ := z
      rw [hc] at r4
      obtain ⟨r5, r6⟩ := r4
      subst r5
      obtain ⟨K, k1, k2, -⟩ := cnt_rg w7.1 hc
      obtain ⟨l1, l2⟩ := cnt_le hc
      have kn : x.toNatClampNeg = K := by rw [k2, zn_cl (by omega)]
      have K4 : KM fr (m + 1) u h2 h4 := K3.tr (Nat.le_refl _) (Nat.le_refl _) (Nat.le_refl _) (KM.pq q4)
      have K5 : KM fr m u h (sA h4 3022 m x) := ((K2.tr (Nat.le_refl _) (Nat.le_succ _) (Nat.le_refl _) K4).sA (by decide) (fun _ _ => by omega) (fun _ _ => Nat.le_refl _) (fun _ => by omega))
      have P4 := P2.km K4 (by omega)
      obtain ⟨p1', p2', p3', p4', p5'⟩ := P4
      have R4 := q4.mk R3 r6 l1 l2
      have G : GU b τ n N h (sA h4 3022 m x) t as of q fr m u p1 (zI ↑K) ([] : List (Nat × Vt d)) :=
        ⟨K5.ms S, K5.mt T, R4, by rw [gA_sA, if_neg (by omega), q4.1.2.2.2]; exact f1, ⟨by rw [gA_sA, if_neg (by omega)]; exact p1', by rw [gA_sA, if_neg (by omega)]; exact p2', by rw [gA_sA, if_neg (by omega)]; exact p3', by rw [gA_sA, if_pos ⟨rfl, rfl⟩]; exact k2, by rw [gA_sA, if_neg (by omega)]; exact p5'⟩, trivial, K5⟩
      have I := uls_run (F := F) (dd := dd) EO ht w hj hqt wq k7 hm hfr hF k1 K (sA h4 3022 m x) p1 [] G (by rw [gA_sA, if_neg (by omega), q4.1.2.2.2]; exact f2) (by simp)
      rw [fnU_nil] at I
      dsimp only
      rw [kn]
      exact I
  · obtain ⟨h2, e2, B2⟩ := H2 hm
    rw [if_neg hm]
    exact ⟨h2, e2, RU.bad B2 (by omega)⟩
/-- adding over a bad state -/
theorem padds_b {h : Hp} {x1 x2 x3 x4 : Int32} (B : Bad h) : ∃ h', fX6_adds F dd 3000 x1 x2 x3 x4 h = some (99, h') ∧ Bad h' ∧ PQ h h' := by
  unfold Bad at B
  unfold fX6_adds fX6_adds_14
  by_cases c : gI h 634 3000 = 100
  · have B2 : gI (sI h 649 3000 0) 649 3000 = 0 := by rw [gI_sI, if_pos ⟨rfl, rfl⟩]
    rw [if_pos c, bn_d, if_pos B2]
    exact ⟨_, rfl, B2, PQ.s9 _ _⟩
  · rw [if_neg c, if_pos (show gI h 649 3000 = 0 from B)]
    exact ⟨_, rfl, B, PQ.rf _⟩
theorem w128_b {h : Hp} {x1 x2 x3 : Int32} (B : Bad h) : ∃ h', fX6_want_128 F dd 3000 x1 x2 x3 h = some h' ∧ Bad h' := by
  obtain ⟨h', e1, B1, -⟩ := padds_b (F := F) (dd := dd) (x1 := x1) (x2 := x2) (x3 := x3) (x4 := 0) B
  refine ⟨h', ?_, B1⟩
  unfold fX6_want_128
  rw [e1, ca_s, bn_d, if_pos (show gI h' 649 3000 = 0 from B1)]
theorem w15_b {h : Hp} {x1 x2 x3 : Int32} {nf : Nat} (B : Bad h) (hn : 0 < nf) : ∃ h', fX6_want_15 F dd nf 3000 x1 x2 x3 h = some h' ∧ Bad h' := by
  obtain ⟨f, rfl⟩ : ∃ f, nf = f + 1 := ⟨nf - 1, by omega⟩
  rw [fX6_want_15, if_pos (show gI h 649 3000 = 0 from B)]
  exact w128_b B
theorem w85_in {h h1 : Hp} {x4 x5 x6 y : Int32} {q k jb nf : Nat} (e1 : fX6_adds F dd 3000 x4 x5 x6 (zI ↑k) h = some (y, h1)) (M : MP h1) (T : MT h1 τ N) (hq : q < N) (hb : gI h1 623 3000 = zI ↑q) (hk : k < tN τ q) (hk6 : tN τ q ≤ 6) (wk : WFt τ jb (tC τ q k)) (hj : jb ≤ 12) (hF : 1000 ≤ F) :
    ∃ h2, UW 0 h1 h2 ∧ gI h2 623 3000 = zI ↑(bas τ 200 (tC τ q k)) ∧ fX6_want_85 F dd (fX6_want_15 F dd nf) 3000 x4 x5 x6 (zI ↑k) h = fX6_want_15 F dd nf 3000 (zI ↑(tC τ q k)) y 0 h2 := by
  have hN := T.1
  obtain ⟨-, -, -, -, a9⟩ := T.2 q hq
  obtain ⟨c1, c2, c3, c4⟩ := a9 k hk
  obtain ⟨h2, e2, U, -, hb2, -⟩ := unw_ok (F := F) (d := dd) M T c4 wk hj (by omega)
  refine ⟨h2, U, hb2, ?_⟩
  unfold fX6_want_85
  simp (disch := omega) only [mp607, mp608, mp609, mp611, mp612, mp613, mp614, mp615, mp616, mp617, mp618, mp619, mp620, mp621, mp622, mp625, mp626, mp631, mp632, mp633, mp636, mp637, mp638, mp639, mp640, mp641, mp642, mp643, mp645, mp646, mp650, mp651, mp652, mp653, mp654, mp655, mp656, mp657, mp658, ln3001, ln3002, ln3003, ln3004, ln3005, ln3006, ln3007, ln3008, ln3009, ln3010, ln3011, ln3012, ln3013, ln3014, ln3015, ln3016, ln3017, ln3018, ln3019, ln3020, ln3021, ln3022, ln3023, ln3024, ln3025, ln3026, ln3027, ln3028, ln3029, ln3030, ln3031, ln3032, ln3033, ln3034, ln3035, ln3036, ln3037, ln3038, ln3039, ck_t, nn_s, bn_d, ca_s, cv_s, oc_n, oc_s, cx_i, cx_r, cy_i, cy_r, gI_sI, gI_sP, gI_sA, gI_sR, gI_sJ, gI_nw, gI_nx, gP_sI, gP_sP, gP_sA, gP_sR, gP_sJ, gP_nw, gP_nx, gA_sI, gA_sP, gA_sA, gA_sR, gA_sJ, gA_nw, gA_nx, gR_sI, gR_sP, gR_sA, gR_sR, gR_sJ, gR_nw, gR_nx, reduceCtorEq, Nat.reduceEqDiff, or_self, or_true, true_or, or_false, false_or, eq_self, and_self, and_true, true_and, and_false, false_and, if_true, if_false, ↓reduceIte, ne_eq, not_true_eq_false, not_false_eq_true, zl0, zl1, zl2, zl3, zl4, zl5, zl6, zl7, zl8, zl9, zl10, zl12, zl15, zl16, zl20, zl31, zl32, zl48, zl97, zl99, zl100, zl120, zl127, zl128, zl129, zl130, zl137, zl150, zl160, zl169, zl254, zl255, zl256, zl4000, zl65535, zl65536, if_pos, if_neg, zn_inb, zn_cl, zn_eq, zn_lt, zn_le, zn_add, zn_sub, zn_mul, zn_addn, zn_eqn, zn_neq, zn_nlt, zn_nle, zn_ckb, isB_b2i, b2z0, b2z1, b2it, b2if, e1, M.2, hb, c1, e2]
theorem w85_b {h : Hp} {x4 x5 x6 : Int32} {q k jb nf : Nat} (M : MP h) (T : MT h τ N) (B : Bad h) (hq : q < N) (hb : gI h 623 3000 = zI ↑q) (hk : k < tN τ q) (hk6 : tN τ q ≤ 6) (wk : WFt τ jb (tC τ q k)) (hj : jb ≤ 12) (hF : 1000 ≤ F) (hn : 0 < nf) :
    ∃ h2, fX6_want_85 F dd (fX6_want_15 F dd nf) 3000 x4 x5 x6 (zI ↑k) h = some h2 ∧ Bad h2 := by
  obtain ⟨h1, e1, B1, Q1⟩ := padds_b (F := F) (dd := dd) (x1 := x4) (x2 := x5) (x3 := x6) (x4 := zI ↑k) B
  have K1 : KM 0 0 0 h h1 := KM.pq Q1
  obtain ⟨h2, U, -, e2⟩ := w85_in (F := F) (dd := dd) (nf := nf) e1 (K1.mp M) (K1.mt T) hq ((Q1.2 _ _ (by omega)).trans hb) hk hk6 wk hj hF
  rw [e2]
  exact w15_b (by unfold Bad; rw [U.2.2.2.1 _ _ (by omega)]; exact B1) hn
/-- the search for a rank -/
theorem w57_lp {h : Hp} {x4 x5 x6 : Int32} {q k v jb nf : Nat} (M : MP h) (T : MT h τ N) (h9 : ¬ gI h 649 3000 = 0) (hq : q < N) (hb : gI h 623 3000 = zI ↑q) (w : WFt τ (jb + 1) q) (k9 : tK τ q = 9) (hk : k < tN τ q) (hr : rnk τ q k = v) (hno : ∀ y, y < k → rnk τ q y ≠ v) (hF : 1000 ≤ F) :
    ∀ (r i g : Nat), i + r = k → r < g → fX6_want_57 F dd (fX6_want_15 F dd nf) g 3000 x4 x5 x6 (zI ↑v) (zI ↑i) h = fX6_want_85 F dd (fX6_want_15 F dd nf) 3000 x4 x5 x6 (zI ↑k) h := by
  have w9 := w.cho k9
  intro r
  induction r with
  | zero =>
    intro i g hi hg
    obtain ⟨f, rfl⟩ : ∃ f, g = f + 1 := ⟨g - 1, by omega⟩
    have : i = k := by omega
    subst this
    rw [fX6_want_57, if_neg h9, hb, mrk_ok M T hq w k9 hk hF, ca_s, hr, if_pos rfl]
  | succ r ih =>
    intro i g hi hg
    obtain ⟨f, rfl⟩ : ∃ f, g = f + 1 := ⟨g - 1, by omega⟩
    have l1 := rnk_lt (τ := τ) q i (by omega)
    have l2 := rnk_lt (τ := τ) q k hk
    have ne : ¬ zI ↑(rnk τ q i) = zI ↑v := fun z => by
      rw [zn_eq (by omega) (by omega)] at z
      exact hno i (by omega) z
    rw [fX6_want_57, if_neg h9, hb, mrk_ok M T hq w k9 (show i < tN τ q by omega) hF, ca_s, if_neg ne, bn_d, zn_succ]
    exact ih (i + 1) f (by omega) (by omega)
def W15 (F dd : Nat) (τ : Tb) (b : Nat → Nat) (n N j d : Nat) : Prop := ∀ (h : Hp) (p fr m u t as : Nat) (of : Int32) (nf : Nat), MSrc h b n → MK h n p fr m u → MT h τ N → t < N → WFt τ j t → fr + j ≤ 150 → j < nf → gI h 623 3000 = zI ↑(bas τ 200 t) → bas τ 200 t < N →
  ∃ h1, fX6_want_15 F dd nf 3000 (zI ↑t) of (zI ↑as) h = some h1 ∧ RU F dd τ t as of h h1 (9 * m) n fr m u (up b (8 * n) τ false d t p m)
theorem RU.uw {h h' h1 : Hp} {t as c0 fr m u d : Nat} {of : Int32} {x : Option (Vt d × Nat)} (K : KM fr m u h h') (rv : RU F dd τ t as of h' h1 c0 n fr m u x) : RU F dd τ t as of h h1 c0 n fr m u x := by
  obtain ⟨k, h2, r, p⟩ := rv
  refine ⟨k, h2, r, ?_⟩
  cases x with
  | none => exact p
  | some z => obtain ⟨v, a'⟩ := z; exact ⟨⟨p.1.1, p.1.2.1, K.tr (Nat.le_refl _) (Nat.le_refl _) (Nat.le_refl _) p.1.2.2⟩, p.2⟩
theorem W15.wn {j d : Nat} (E : W15 F dd τ b n N j d) (hj : j ≤ 12) (hF : 1000 ≤ F) : WnOK F dd τ b n N j d := by
  intro h p fr m u t as of S R T ht w hfr
  obtain ⟨h3, e3, U, TA, hb, hlt⟩ := unw_ok (F := F) (d := dd) S.1 T ht w hj (by omega)
  have K3 : KM fr m u h h3 := KM.uw U
  obtain ⟨h1, e1, r1⟩ := E h3 p fr m u t as of F (K3.ms S) (R.uw U) (K3.mt T) ht w hfr (by omega) hb hlt
  refine ⟨h1, ?_, r1.uw K3⟩
  unfold fX6_want
  rw [e3, cv_s, e1]
theorem want_ok (hF : 1000 ≤ F) : ∀ (D j : Nat), j < D → j ≤ 12 → W15 F dd τ b n N j D := by
  intro D
  induction D with
  | zero => intro j hj; omega
  | succ D ih =>
    intro j hj hj12 h p fr m u t as of nf S R T ht w hfr hnf hb hlt
    obtain ⟨f, rfl⟩ : ∃ f, nf = f + 1 := ⟨nf - 1, by omega⟩
    obtain ⟨jb, b1, b2, b3⟩ := w.base (show j ≤ 200 by omega)
    have hN := T.1
    have hn := S.2.2.1
    have r8 := R.2.2.1
    generalize hq : bas τ 200 t = q at *
    obtain ⟨⟨a1, a2, -⟩, -⟩ := T.2 q hlt
    have kq := b2.kind
    have g9 : ¬ gI h 649 3000 = 0 := by rw [R.1.2.2.1]; decide
    rw [fX6_want_15, if_neg g9, S.1.2, mp611, nn_s, hb, ln3004, zn_inb (show q < 160 by omega) (by omega), ck_t, zn_cl (by omega), a1]
    by_cases k9 : tK τ q = 9
    · have w9 := b2.cho k9
      have hM : (zI ↑(tN τ q) - 1) - 0 = zI ↑(tN τ q - 1) := by rw [zn_pred (by omega)]; show zI _ - zI ↑(0 : Nat) = _; rw [zn_sub (by omega)]; rfl
      obtain ⟨x, h2, e2, q2, r2⟩ := rging_ok (F := F) (dd := dd) hM (by omega) S R.pg R.2.2.2.2 hF
      rw [if_pos (show zI ↑(tK τ q) = 9 by rw [k9]; rfl), S.1.2, mp615, nn_s, ln3008, zn_inb (show q < 160 by omega) (by omega), ck_t, a2, e2, ca_s, up, hq]
      have K2 : KM fr m u h h2 := KM.pq q2
      have S2 := K2.ms S
      have T2 := K2.mt T
      have hb2 : gI h2 623 3000 = zI ↑q := (q2.2 _ _ (by omega)).trans hb
      cases hr : rng b (8 * n) (tN τ q - 1) p with
      | none =>
        rw [hr] at r2
        have B2 : Bad h2 := r2
        obtain ⟨g, hg⟩ : ∃ g, F = g + 1 := ⟨F - 1, by omega⟩
        have e57 : fX6_want_57 F dd (fX6_want_15 F dd f) F 3000 (zI ↑t) of (zI ↑as) x 0 h2 = fX6_want_85 F dd (fX6_want_15 F dd f) 3000 (zI ↑t) of (zI ↑as) (zI ↑(0 : Nat)) h2 := by
          have : fX6_want_57 F dd (fX6_want_15 F dd f) (g + 1) 3000 (zI ↑t) of (zI ↑as) x 0 h2 = fX6_want_85 F dd (fX6_want_15 F dd f) 3000 (zI ↑t) of (zI ↑as) (zI ↑(0 : Nat)) h2 := by
            rw [fX6_want_57, if_pos (show gI h2 649 3000 = 0 from B2)]; rfl
          rw [← hg] at this
          exact this
        rw [e57]
        obtain ⟨h3, e3, B3⟩ := w85_b (F := F) (dd := dd) (x4 := zI ↑t) (x5 := of) (x6 := zI ↑as) (nf := f) S2.1 T2 B2 hlt hb2 (show 0 < tN τ q by omega) w9.1.2 (w9.2.2 0 (by omega)) (by omega) hF (by omega)
        refine ⟨h3, e3, ?_⟩
        simp only [k9, if_true]
        split
        · exact RU.bad B3 (by omega)
        · exact RU.bad B3 (by omega)
      | some z =>
        obtain ⟨v, p1⟩ := z
        rw [hr] at r2
        obtain ⟨r3, r4, -⟩ := r2
        have xv : x = zI ↑v := by rw [r3]; show zI ↑(0 : Nat) + zI ↑v = _; rw [zn_add]; congr 2; omega
        obtain ⟨l1, l2⟩ := rng_le hr
        have vl : v < tN τ q := by
          rw [rng_eq] at hr
          split at hr
          · next c => cases hr; omega
          · cases hr
        obtain ⟨k0, k01, k02⟩ := rnk_ex b2 k9 vl
        obtain ⟨k, s1, s2, s3, s4, s5⟩ := rkF_ex (τ := τ) (q := q) (r := v) (tN τ q) 0 ⟨k0, by omega, by omega, k02⟩
        have R2 := q2.mk R r4 l1 l2
        have g92 : ¬ gI h2 649 3000 = 0 := by rw [r4.2]; decide
        rw [xv, show (0 : Int32) = zI ↑(0 : Nat) from rfl, w57_lp (F := F) (dd := dd) (nf := f) S2.1 T2 g92 hlt hb2 b2 k9 (show k < tN τ q by omega) s4 (fun y hy => s5 y (by omega) hy) hF k 0 F (by omega) (by omega)]
        simp only [s1]
        have wk := w9.2.2 k (by omega)
        by_cases hm : m < 100
        · simp only [hm, k9, if_true]
          obtain ⟨h3, e3, R3, P3, K3, b3', -, -⟩ := padds_ok (F := F) (dd := dd) S2 R2 hm t as of (zI ↑k)
          have S3 := K3.ms S2
          have T3 := K3.mt T2
          obtain ⟨h4, U4, hb4, e4⟩ := w85_in (F := F) (dd := dd) (nf := f) e3 S3.1 T3 hlt (b3'.trans hb2) (show k < tN τ q by omega) w9.1.2 wk (by omega) hF
          have K4 : KM fr (m + 1) u h3 h4 := KM.uw U4
          have c4 := (T.2 q hlt).2.2.2.2 k (by omega) |>.2.2.2
          have hlt4 : bas τ 200 (tC τ q k) < N := by
            obtain ⟨_, _, _, _, _, z⟩ := unw_ok (F := F) (d := dd) S.1 T c4 wk (by omega) (by omega)
            exact z
          obtain ⟨h5, e5, k5, h6, r6, p6⟩ := ih jb (by omega) (by omega) h4 p1 fr (m + 1) u (tC τ q k) 0 (zI ↑m) f (K4.ms S3) (R3.uw U4) (K4.mt T3) c4 wk (by omega) (by omega) hb4 hlt4
          rw [e4]
          refine ⟨h5, e5, ?_⟩
          cases hr1 : up b (8 * n) τ false D (tC τ q k) p1 (m + 1) with
          | none => rw [hr1] at p6; exact ⟨k5, h6, r6, p6.1, by have := p6.2; omega⟩
          | some z =>
            obtain ⟨vv, p'⟩ := z
            rw [hr1] at p6
            obtain ⟨⟨R5, P5, K5⟩, hk5⟩ := p6
            have K45 : KM fr (m + 1) u h3 h6 := K4.tr (Nat.le_refl _) (Nat.le_refl _) (Nat.le_refl _) K5
            have K25 : KM fr m u h h6 := (K2.tr (Nat.le_refl _) (Nat.le_refl _) (Nat.le_refl _) K3).tr (Nat.le_refl _) (Nat.le_succ _) (Nat.le_refl _) K45
            refine ⟨k5, h6, r6, ⟨?_, ⟨?_, fun i x hx => (by cases hx), ⟨?_, trivial⟩⟩, K25⟩, ?_⟩
            · rw [sz_mk, oz_mk, szs_cons, szs_nil, ozs_cons, ozs_nil, List.length_nil, Nat.zero_add, Nat.add_zero, Nat.add_zero, ← Nat.add_assoc]; exact R5
            · show PtI h6 m t of as (Int32.ofNat k) u
              rw [zI_nat]; exact P3.km K45 (by omega)
            · have e9 : kdT τ q (Int32.ofNat k) 0 = tC τ q k := by unfold kdT; rw [if_neg (by omega), if_neg (by omega), zI_nat, zn_cl (by omega)]
              show PV h6 τ D vv (m + 1) (u + 0) (zI ↑m) 0 (kdT τ q (Int32.ofNat k) 0)
              rw [e9]; exact P5
            · have e0 : szs [((0 : Nat), vv)] = sz D vv := by rw [szs_cons, szs_nil]; rfl
              rw [sz_mk, e0]; omega
        · simp only [hm, if_false]
          have e3 := padds_no (F := F) (dd := dd) S2 R2 hm (zI ↑t) (zI ↑as) of (zI ↑k)
          have K3 : KM fr m u h2 (sI h2 649 3000 (zI ↑(0 : Nat))) := KM.pq (PQ.s9 _ _)
          obtain ⟨h4, U4, hb4, e4⟩ := w85_in (F := F) (dd := dd) (nf := f) e3 (K3.mp S2.1) (K3.mt T2) hlt (by rw [gI_sI, if_neg (by omega)]; exact hb2) (show k < tN τ q by omega) w9.1.2 wk (by omega) hF
          rw [e4]
          obtain ⟨h5, e5, B5⟩ := w15_b (F := F) (dd := dd) (h := h4) (x1 := zI ↑(tC τ q k)) (x2 := zI ↑(99 : Nat)) (x3 := 0) (nf := f) (by unfold Bad; rw [U4.2.2.2.1 _ _ (by omega), gI_sI, if_pos ⟨rfl, rfl⟩]) (by omega)
          exact ⟨h5, e5, RU.bad B5 (by omega)⟩
    · rw [if_neg (show ¬ zI ↑(tK τ q) = 9 from zn_ne 9 k9 rfl (by omega) (by omega))]
      rcases b2 with ⟨k, -⟩ | ⟨k, -, ok⟩ | ⟨k, -, ok⟩ | ⟨k, -⟩ | ⟨k, w6⟩ | ⟨k, w7⟩ | ⟨k, -⟩ | ⟨k, -⟩
      · exact w_nb S R T hlt hb hq (Or.inr k)
      · cases hB : tB τ q with
        | true => exact w_ib S R T hlt hb hq k ok hB hF
        | false => exact w_iu S R T hlt hb hq k hB hF
      · exact w_oc S R T hlt hb hq k ok hF
      · exact w_nb S R T hlt hb hq (Or.inl k)
      · cases D with
        | zero => omega
        | succ D =>
          exact w_sq ((ih jb (by omega) (by omega)).wn (by omega) hF) S R T ht w hj12 hlt hb hq (Or.inr (Or.inr (Or.inr (Or.inr (Or.inl ⟨k, w6⟩))))) k (by omega) hF
      · exact w_ls ((ih jb (by omega) (by omega)).wn (by omega) hF) S R T ht w hj12 hlt hb hq (Or.inr (Or.inr (Or.inr (Or.inr (Or.inr (Or.inl ⟨k, w7⟩)))))) k (by omega) hF
      · omega
      · omega
end Wn
