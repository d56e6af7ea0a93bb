/-! THE MODEL READS BITS (2): numbers of a range -/
set_option maxRecDepth 100000
section Mc
variable {F dd n p : Nat} {b : Nat → Nat} {h : Hp}
theorem mwid_lp {x : Nat} (hx : x < 2147483648) : ∀ (r k nf : Nat), k + r = wid x → r < nf → fX6_width_2 F dd nf (zI x) (zI k) h = some (zI ↑(wid x), h) := by
  have w31 : wid x ≤ 31 := (wid_le x 31).mpr hx
  intro r
  induction r with
  | zero =>
    intro k nf hk hn
    cases nf with
    | zero => omega
    | succ nf =>
      have : x / 2 ^ k = 0 := Nat.div_eq_of_lt ((wid_le x k).mp (by omega))
      rw [fX6_width_2, zn_31 (by omega), zn_shr hx (by omega), this, if_pos (show zI ↑(0 : Nat) ≤ 0 by decide), show k = wid x by omega]
  | succ r ih =>
    intro k nf hk hn
    cases nf with
    | zero => omega
    | succ nf =>
      have h1 : ¬ x < 2 ^ k := fun w => by have := (wid_le x k).mpr w; omega
      have h2 : ¬ x / 2 ^ k = 0 := by
        intro w
        rcases Nat.div_eq_zero_iff.mp w with z | z
        · have : 0 < 2 ^ k := Nat.pow_pos (by decide); omega
        · exact h1 z
      have h3 : x / 2 ^ k < 2147483648 := Nat.lt_of_le_of_lt (Nat.div_le_self _ _) hx
      have h4 : ¬ zI ↑(x / 2 ^ k) ≤ 0 := by
        generalize x / 2 ^ k = y at h2 h3
        rw [show (0 : Int32) = zI ↑(0 : Nat) from rfl, zI_le (by omega) (by omega) (by omega) (by omega)]; omega
      rw [fX6_width_2, zn_31 (by omega), zn_shr hx (by omega), if_neg h4, bn_d, zn_succ]
      exact ih (k + 1) nf (by omega) (by omega)
theorem mwid_ok {x : Nat} (hx : x < 2147483648) (hF : 1000 ≤ F) : fX6_width F dd (zI x) h = some (zI ↑(wid x), h) := by
  have w31 : wid x ≤ 31 := (wid_le x 31).mpr hx
  unfold fX6_width
  exact mwid_lp hx (wid x) 0 F (by omega) (by omega)
theorem some_ok {k : Nat} (hk : k ≤ 32) (S : MSrc h b n) (G : PG h p) (hp : p ≤ 8 * n) (hF : 1000 ≤ F) :
    ∃ x h', fX6_some F dd 3000 (zI ↑k) h = some (x, h') ∧ PQ h h' ∧ PR h' x (tk b (8 * n) p k) := by
  have := S.2.2.1
  exact some_lp (F := F) (dd := dd) hk k 0 F h (by omega) (by omega) S G (by omega) hp
theorem malg_ok (S : MSrc h b n) (G : PG h p) (hp : p ≤ 8 * n) : fX6_align F dd 3000 h = some (sI h 647 3000 (zI ↑(al8 p))) ∧ PG (sI h 647 3000 (zI ↑(al8 p))) (al8 p) ∧ al8 p ≤ 8 * n := by
  have hn := S.2.2.1
  refine ⟨?_, ⟨by rw [gI_sI, if_pos ⟨rfl, rfl⟩], by rw [gI_sI, if_neg (by omega)]; exact G.2⟩, by unfold al8; omega⟩
  unfold fX6_align al8
  rw [bn_d, G.1, show (7 : Int32) = zI ↑(7 : Nat) from rfl, zn_add, show (8 : Int32) = zI 8 from rfl, zI_div (by omega) (by omega) (by omega) (by omega), show (zI (↑(p + 7) / 8) : Int32) = zI ↑((p + 7) / 8) from rfl, show zI 8 = zI ↑(8 : Nat) from rfl, zn_mul]
/-- what is known behind reading a number of a range -/
def PI (h' : Hp) (x lo : Int32) (r : Option (Nat × Nat)) : Prop := match r with
  | none => Bad h'
  | some (v, p1) => x = lo + zI ↑v ∧ PG h' p1 ∧ v ≤ 65535
theorem rg44 {lo : Int32} {k M : Nat} (hk : k ≤ 16) (hM : M ≤ 65535) (S : MSrc h b n) (G : PG h p) (hp : p ≤ 8 * n) (hF : 1000 ≤ F) :
    ∃ x h', fX6_ranging_44 F dd 3000 lo (zI ↑M) 3000 (zI ↑k) h = some (x, h') ∧ PQ h h' ∧ PI h' x lo (if p + k ≤ 8 * n ∧ tkv b p k ≤ M then some (tkv b p k, p + k) else none) := by
  obtain ⟨x, h1, e1, q1, r1⟩ := some_ok (F := F) (dd := dd) (k := k) (by omega) S G hp hF
  unfold fX6_ranging_44 fX6_ranging_60
  rw [e1, ca_s]
  unfold tk at r1
  by_cases c : p + k ≤ 8 * n
  · rw [if_pos c] at r1
    obtain ⟨r2, r3⟩ := r1
    have lt := tkv_lt b p k
    have : 2 ^ k ≤ 2 ^ 16 := Nat.pow_le_pow_right (by decide) hk
    by_cases c2 : tkv b p k ≤ M
    · refine ⟨lo + x, h1, ?_, q1, ?_⟩
      · rw [if_pos (show x ≤ zI ↑M by rw [r2, zI_le (by omega) (by omega) (by omega) (by omega)]; omega)]
      · rw [if_pos (show p + k ≤ 8 * n ∧ tkv b p k ≤ M from ⟨c, c2⟩)]; exact ⟨by rw [r2], r3, by omega⟩
    · refine ⟨lo + x, sI h1 649 3000 0, ?_, q1.tr (PQ.s9 _ _), ?_⟩
      · rw [if_neg (show ¬ x ≤ zI ↑M by rw [r2, zI_le (by omega) (by omega) (by omega) (by omega)]; omega), bn_d]
      · rw [if_neg (show ¬ (p + k ≤ 8 * n ∧ tkv b p k ≤ M) from fun w => c2 w.2)]; show gI _ 649 3000 = _; rw [gI_sI, if_pos ⟨rfl, rfl⟩]; rfl
  · rw [if_neg c] at r1
    rw [if_neg (show ¬ (p + k ≤ 8 * n ∧ tkv b p k ≤ M) from fun w => c w.1)]
    have r1 : gI h1 649 3000 = zI ↑(0 : Nat) := r1
    by_cases c2 : x ≤ zI ↑M
    · exact ⟨lo + x, h1, by rw [if_pos c2], q1, r1⟩
    · refine ⟨lo + x, sI h1 649 3000 0, ?_, q1.tr (PQ.s9 _ _), ?_⟩
      · rw [if_neg c2, bn_d]
      · show gI _ 649 3000 = _; rw [gI_sI, if_pos ⟨rfl, rfl⟩]; rfl
theorem rging_ok {lo hi : Int32} {M : Nat} (hM : hi - lo = zI ↑M) (hM2 : M ≤ 65535) (S : MSrc h b n) (G : PG h p) (hp : p ≤ 8 * n) (hF : 1000 ≤ F) :
    ∃ x h', fX6_ranging F dd 3000 lo hi h = some (x, h') ∧ PQ h h' ∧ PI h' x lo (rng b (8 * n) M p) := by
  have k16 := rwd_16 M
  have go : ∀ (h : Hp) (p : Nat), MSrc h b n → PG h p → p ≤ 8 * n → ∃ x h', fX6_ranging_15 F dd 3000 lo (zI ↑M) h = some (x, h') ∧ PQ h h' ∧ PI h' x lo (if p + rwd M ≤ 8 * n ∧ tkv b p (rwd M) ≤ M then some (tkv b p (rwd M), p + rwd M) else none) := by
    intro h p S G hp
    have := rg44 (F := F) (dd := dd) (lo := lo) (k := rwd M) (M := M) k16 hM2 S G hp hF
    obtain ⟨x, h', e, r⟩ := this
    refine ⟨x, h', ?_, r⟩
    rw [← e]
    unfold fX6_ranging_15 rwd
    by_cases c : M < 255
    · rw [if_pos c]
      have e2 := mwid_ok (F := F) (dd := dd) (h := h) (x := M) (by omega) hF
      simp (disch := omega) only [mp607, mp608, mp609, mp611, mp612, mp613, mp614, mp615, mp616, mp617, mp618, mp619, mp620, mp621, mp622, mp625, mp626, mp631, mp632, mp633, mp636, mp637, mp638, mp639, mp640, mp641, mp642, mp643, mp645, mp646, mp650, mp651, mp652, mp653, mp654, mp655, mp656, mp657, mp658, ln3001, ln3002, ln3003, ln3004, ln3005, ln3006, ln3007, ln3008, ln3009, ln3010, ln3011, ln3012, ln3013, ln3014, ln3015, ln3016, ln3017, ln3018, ln3019, ln3020, ln3021, ln3022, ln3023, ln3024, ln3025, ln3026, ln3027, ln3028, ln3029, ln3030, ln3031, ln3032, ln3033, ln3034, ln3035, ln3036, ln3037, ln3038, ln3039, ck_t, nn_s, bn_d, ca_s, cv_s, oc_n, oc_s, cx_i, cx_r, cy_i, cy_r, gI_sI, gI_sP, gI_sA, gI_sR, gI_sJ, gI_nw, gI_nx, gP_sI, gP_sP, gP_sA, gP_sR, gP_sJ, gP_nw, gP_nx, gA_sI, gA_sP, gA_sA, gA_sR, gA_sJ, gA_nw, gA_nx, gR_sI, gR_sP, gR_sA, gR_sR, gR_sJ, gR_nw, gR_nx, reduceCtorEq, Nat.reduceEqDiff, or_self, or_true, true_or, or_false, false_or, eq_self, and_self, and_true, true_and, and_false, false_and, if_true, if_false, ↓reduceIte, ne_eq, not_true_eq_false, not_false_eq_true, zl0, zl1, zl2, zl3, zl4, zl5, zl6, zl7, zl8, zl9, zl10, zl12, zl15, zl16, zl20, zl31, zl32, zl48, zl97, zl99, zl100, zl120, zl127, zl128, zl129, zl130, zl137, zl150, zl160, zl169, zl254, zl255, zl256, zl4000, zl65535, zl65536, if_pos, if_neg, zn_inb, zn_cl, zn_eq, zn_lt, zn_le, zn_add, zn_sub, zn_mul, zn_addn, zn_eqn, zn_neq, zn_nlt, zn_nle, zn_ckb, isB_b2i, b2z0, b2z1, b2it, b2if, e2]
    · rw [if_neg c]
      by_cases c2 : M = 255
      · rw [if_pos c2]
        simp (disch := omega) only [mp607, mp608, mp609, mp611, mp612, mp613, mp614, mp615, mp616, mp617, mp618, mp619, mp620, mp621, mp622, mp625, mp626, mp631, mp632, mp633, mp636, mp637, mp638, mp639, mp640, mp641, mp642, mp643, mp645, mp646, mp650, mp651, mp652, mp653, mp654, mp655, mp656, mp657, mp658, ln3001, ln3002, ln3003, ln3004, ln3005, ln3006, ln3007, ln3008, ln3009, ln3010, ln3011, ln3012, ln3013, ln3014, ln3015, ln3016, ln3017, ln3018, ln3019, ln3020, ln3021, ln3022, ln3023, ln3024, ln3025, ln3026, ln3027, ln3028, ln3029, ln3030, ln3031, ln3032, ln3033, ln3034, ln3035, ln3036, ln3037, ln3038, ln3039, ck_t, nn_s, bn_d, ca_s, cv_s, oc_n, oc_s, cx_i, cx_r, cy_i, cy_r, gI_sI, gI_sP, gI_sA, gI_sR, gI_sJ, gI_nw, gI_nx, gP_sI, gP_sP, gP_sA, gP_sR, gP_sJ, gP_nw, gP_nx, gA_sI, gA_sP, gA_sA, gA_sR, gA_sJ, gA_nw, gA_nx, gR_sI, gR_sP, gR_sA, gR_sR, gR_sJ, gR_nw, gR_nx, reduceCtorEq, Nat.reduceEqDiff, or_self, or_true, true_or, or_false, false_or, eq_self, and_self, and_true, true_and, and_false, false_and, if_true, if_false, ↓reduceIte, ne_eq, not_true_eq_false, not_false_eq_true, zl0, zl1, zl2, zl3, zl4, zl5, zl6, zl7, zl8, zl9, zl10, zl12, zl15, zl16, zl20, zl31, zl32, zl48, zl97, zl99, zl100, zl120, zl127, zl128, zl129, zl130, zl137, zl150, zl160, zl169, zl254, zl255, zl256, zl4000, zl65535, zl65536, if_pos, if_neg, zn_inb, zn_cl, zn_eq, zn_lt, zn_le, zn_add, zn_sub, zn_mul, zn_addn, zn_eqn, zn_neq, zn_nlt, zn_nle, zn_ckb, isB_b2i, b2z0, b2z1, b2it, b2if]
      · rw [if_neg c2]
        simp (disch := omega) only [mp607, mp608, mp609, mp611, mp612, mp613, mp614, mp615, mp616, mp617, mp618, mp619, mp620, mp621, mp622, mp625, mp626, mp631, mp632, mp633, mp636, mp637, mp638, mp639, mp640, mp641, mp642, mp643, mp645, mp646, mp650, mp651, mp652, mp653, mp654, mp655, mp656, mp657, mp658, ln3001, ln3002, ln3003, ln3004, ln3005, ln3006, ln3007, ln3008, ln3009, ln3010, ln3011, ln3012, ln3013, ln3014, ln3015, ln3016, ln3017, ln3018, ln3019, ln3020, ln3021, ln3022, ln3023, ln3024, ln3025, ln3026, ln3027, ln3028, ln3029, ln3030, ln3031, ln3032, ln3033, ln3034, ln3035, ln3036, ln3037, ln3038, ln3039, ck_t, nn_s, bn_d, ca_s, cv_s, oc_n, oc_s, cx_i, cx_r, cy_i, cy_r, gI_sI, gI_sP, gI_sA, gI_sR, gI_sJ, gI_nw, gI_nx, gP_sI, gP_sP, gP_sA, gP_sR, gP_sJ, gP_nw, gP_nx, gA_sI, gA_sP, gA_sA, gA_sR, gA_sJ, gA_nw, gA_nx, gR_sI, gR_sP, gR_sA, gR_sR, gR_sJ, gR_nw, gR_nx, reduceCtorEq, Nat.reduceEqDiff, or_self, or_true, true_or, or_false, false_or, eq_self, and_self, and_true, true_and, and_false, false_and, if_true, if_false, ↓reduceIte, ne_eq, not_true_eq_false, not_false_eq_true, zl0, zl1, zl2, zl3, zl4, zl5, zl6, zl7, zl8, zl9, zl10, zl12, zl15, zl16, zl20, zl31, zl32, zl48, zl97, zl99, zl100, zl120, zl127, zl128, zl129, zl130, zl137, zl150, zl160, zl169, zl254, zl255, zl256, zl4000, zl65535, zl65536, if_pos, if_neg, zn_inb, zn_cl, zn_eq, zn_lt, zn_le, zn_add, zn_sub, zn_mul, zn_addn, zn_eqn, zn_neq, zn_nlt, zn_nle, zn_ckb, isB_b2i, b2z0, b2z1, b2it, b2if]
  rw [rng_eq]
  unfold fX6_ranging rgp
  rw [hM, bn_d]
  by_cases c : 254 < M
  · obtain ⟨a1, a2, a3⟩ := malg_ok (F := F) (dd := dd) S G hp
    obtain ⟨x, h', e, q, r⟩ := go _ _ ((PQ.s7 h _).ms S) a2 a3
    refine ⟨x, h', ?_, (PQ.s7 h _).tr q, ?_⟩
    · rw [a1, cv_s, e]
      simp (disch := omega) only [mp607, mp608, mp609, mp611, mp612, mp613, mp614, mp615, mp616, mp617, mp618, mp619, mp620, mp621, mp622, mp625, mp626, mp631, mp632, mp633, mp636, mp637, mp638, mp639, mp640, mp641, mp642, mp643, mp645, mp646, mp650, mp651, mp652, mp653, mp654, mp655, mp656, mp657, mp658, ln3001, ln3002, ln3003, ln3004, ln3005, ln3006, ln3007, ln3008, ln3009, ln3010, ln3011, ln3012, ln3013, ln3014, ln3015, ln3016, ln3017, ln3018, ln3019, ln3020, ln3021, ln3022, ln3023, ln3024, ln3025, ln3026, ln3027, ln3028, ln3029, ln3030, ln3031, ln3032, ln3033, ln3034, ln3035, ln3036, ln3037, ln3038, ln3039, ck_t, nn_s, bn_d, ca_s, cv_s, oc_n, oc_s, cx_i, cx_r, cy_i, cy_r, gI_sI, gI_sP, gI_sA, gI_sR, gI_sJ, gI_nw, gI_nx, gP_sI, gP_sP, gP_sA, gP_sR, gP_sJ, gP_nw, gP_nx, gA_sI, gA_sP, gA_sA, gA_sR, gA_sJ, gA_nw, gA_nx, gR_sI, gR_sP, gR_sA, gR_sR, gR_sJ, gR_nw, gR_nx, reduceCtorEq, Nat.reduceEqDiff, or_self, or_true, true_or, or_false, false_or, eq_self, and_self, and_true, true_and, and_false, false_and, if_true, if_false, ↓reduceIte, ne_eq, not_true_eq_false, not_false_eq_true, zl0, zl1, zl2, zl3, zl4, zl5, zl6, zl7, zl8, zl9, zl10, zl12, zl15, zl16, zl20, zl31, zl32, zl48, zl97, zl99, zl100, zl120, zl127, zl128, zl129, zl130, zl137, zl150, zl160, zl169, zl254, zl255, zl256, zl4000, zl65535, zl65536, if_pos, if_neg, zn_inb, zn_cl, zn_eq, zn_lt, zn_le, zn_add, zn_sub, zn_mul, zn_addn, zn_eqn, zn_neq, zn_nlt, zn_nle, zn_ckb, isB_b2i, b2z0, b2z1, b2it, b2if]
    · simp only [if_pos c]; exact r
  · obtain ⟨x, h', e, q, r⟩ := go _ _ S G hp
    refine ⟨x, h', ?_, q, ?_⟩
    · rw [e]
      simp (disch := omega) only [mp607, mp608, mp609, mp611, mp612, mp613, mp614, mp615, mp616, mp617, mp618, mp619, mp620, mp621, mp622, mp625, mp626, mp631, mp632, mp633, mp636, mp637, mp638, mp639, mp640, mp641, mp642, mp643, mp645, mp646, mp650, mp651, mp652, mp653, mp654, mp655, mp656, mp657, mp658, ln3001, ln3002, ln3003, ln3004, ln3005, ln3006, ln3007, ln3008, ln3009, ln3010, ln3011, ln3012, ln3013, ln3014, ln3015, ln3016, ln3017, ln3018, ln3019, ln3020, ln3021, ln3022, ln3023, ln3024, ln3025, ln3026, ln3027, ln3028, ln3029, ln3030, ln3031, ln3032, ln3033, ln3034, ln3035, ln3036, ln3037, ln3038, ln3039, ck_t, nn_s, bn_d, ca_s, cv_s, oc_n, oc_s, cx_i, cx_r, cy_i, cy_r, gI_sI, gI_sP, gI_sA, gI_sR, gI_sJ, gI_nw, gI_nx, gP_sI, gP_sP, gP_sA, gP_sR, gP_sJ, gP_nw, gP_nx, gA_sI, gA_sP, gA_sA, gA_sR, gA_sJ, gA_nw, gA_nx, gR_sI, gR_sP, gR_sA, gR_sR, gR_sJ, gR_nw, gR_nx, reduceCtorEq, Nat.reduceEqDiff, or_self, or_true, true_or, or_false, false_or, eq_self, and_self, and_true, true_and, and_false, false_and, if_true, if_false, ↓reduceIte, ne_eq, not_true_eq_false, not_false_eq_true, zl0, zl1, zl2, zl3, zl4, zl5, zl6, zl7, zl8, zl9, zl10, zl12, zl15, zl16, zl20, zl31, zl32, zl48, zl97, zl99, zl100, zl120, zl127, zl128, zl129, zl130, zl137, zl150, zl160, zl169, zl254, zl255, zl256, zl4000, zl65535, zl65536, if_pos, if_neg, zn_inb, zn_cl, zn_eq, zn_lt, zn_le, zn_add, zn_sub, zn_mul, zn_addn, zn_eqn, zn_neq, zn_nlt, zn_nle, zn_ckb, isB_b2i, b2z0, b2z1, b2it, b2if]
    · simp only [if_neg c]; exact r
end Mc
