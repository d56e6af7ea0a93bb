/-! THE MODEL READS BITS (5): octets -/
set_option maxRecDepth 100000
section Mf
variable {F dd n p u i K : Nat} {b : Nat → Nat}
/-- octets from u + k on, the place, the room, whether it is good have changed -/
def OQ (lo : Nat) (h h' : Hp) : Prop := (gP h' = gP h ∧ gL h' = gL h ∧ gR h' = gR h) ∧ (∀ g y, ¬ (y = 3000 ∧ (g = 647 ∨ g = 649 ∨ g = 635)) → gI h' g y = gI h g y) ∧ ∀ y x, ¬ (y = 3028 ∧ lo ≤ x) → gA h' y x = gA h y x
theorem PQ.oq {lo : Nat} {h h' : Hp} (a : PQ h h') : OQ lo h h' := ⟨⟨a.1.1, a.1.2.1, a.1.2.2.1⟩, fun g y q => a.2 g y (by omega), fun y x _ => by rw [a.1.2.2.2]⟩
theorem OQ.tr {lo lo' : Nat} {h1 h2 h3 : Hp} (a : OQ lo h1 h2) (c : OQ lo' h2 h3) (l : lo ≤ lo') : OQ lo h1 h3 :=
  ⟨⟨c.1.1.trans a.1.1, c.1.2.1.trans a.1.2.1, c.1.2.2.trans a.1.2.2⟩, fun g y q => (c.2.1 g y q).trans (a.2.1 g y q), fun y x q => (c.2.2 y x (by omega)).trans (a.2.2 y x q)⟩
theorem woct_lp (hi : i < 100) (hK : K ≤ 127) (hu : 8 * u ≤ p) (hF : 1000 ≤ F) : ∀ (r k nf : Nat) (h : Hp), k + r = K → r + 1 < nf → MSrc h b n → gI h 635 3000 = zI ↑u → gA h 3022 i = zI ↑K → PG h (p + 8 * k) → p + 8 * k ≤ 8 * n →
    ∃ h', fX6_want_270 F dd nf 3000 (zI ↑i) (zI ↑k) h = some h' ∧ OQ (u + k) h h' ∧ (if p + 8 * K ≤ 8 * n then PG h' (p + 8 * K) ∧ gI h' 635 3000 = zI ↑(u + K) ∧ ∀ j, k ≤ j → j < K → gA h' 3028 (u + j) = zI ↑(tkv b (p + 8 * j) 8) else Bad h') := by
  intro r
  induction r with
  | zero =>
    intro k nf h hk hf S e1 e2 G hp
    obtain ⟨f, rfl⟩ : ∃ f, nf = f + 1 := ⟨nf - 1, by omega⟩
    have e : k = K := by omega
    subst e
    have M := S.1
    refine ⟨sI h 635 3000 (zI ↑(u + k)), ?_, ⟨⟨rfl, rfl, rfl⟩, fun g y q => by rw [gI_sI, if_neg (by omega)], fun _ _ _ => rfl⟩, ?_⟩
    · rw [fX6_want_270]
      unfold fX6_want_313 fX6_want_336
      simp (disch := omega) only [mp607, mp608, mp609, mp611, mp612, mp613, mp614, mp615, mp616, mp617, mp618, mp619, mp620, mp621, mp622, mp625, mp626, mp631, mp632, mp633, mp636, mp637, mp638, mp639, mp640, mp641, mp642, mp643, mp645, mp646, mp650, mp651, mp652, mp653, mp654, mp655, mp656, mp657, mp658, ln3001, ln3002, ln3003, ln3004, ln3005, ln3006, ln3007, ln3008, ln3009, ln3010, ln3011, ln3012, ln3013, ln3014, ln3015, ln3016, ln3017, ln3018, ln3019, ln3020, ln3021, ln3022, ln3023, ln3024, ln3025, ln3026, ln3027, ln3028, ln3029, ln3030, ln3031, ln3032, ln3033, ln3034, ln3035, ln3036, ln3037, ln3038, ln3039, ck_t, nn_s, bn_d, ca_s, cv_s, oc_n, oc_s, cx_i, cx_r, cy_i, cy_r, gI_sI, gI_sP, gI_sA, gI_sR, gI_sJ, gI_nw, gI_nx, gP_sI, gP_sP, gP_sA, gP_sR, gP_sJ, gP_nw, gP_nx, gA_sI, gA_sP, gA_sA, gA_sR, gA_sJ, gA_nw, gA_nx, gR_sI, gR_sP, gR_sA, gR_sR, gR_sJ, gR_nw, gR_nx, reduceCtorEq, Nat.reduceEqDiff, or_self, or_true, true_or, or_false, false_or, eq_self, and_self, and_true, true_and, and_false, false_and, if_true, if_false, ↓reduceIte, ne_eq, not_true_eq_false, not_false_eq_true, zl0, zl1, zl2, zl3, zl4, zl5, zl6, zl7, zl8, zl9, zl10, zl12, zl15, zl16, zl20, zl31, zl32, zl48, zl97, zl99, zl100, zl120, zl127, zl128, zl129, zl130, zl137, zl150, zl160, zl169, zl254, zl255, zl256, zl4000, zl65535, zl65536, if_pos, if_neg, zn_inb, zn_cl, zn_eq, zn_lt, zn_le, zn_add, zn_sub, zn_mul, zn_addn, zn_eqn, zn_neq, zn_nlt, zn_nle, zn_ckb, isB_b2i, b2z0, b2z1, b2it, b2if, M.2, e1, e2, G.2]
    · rw [if_pos hp]
      exact ⟨⟨by rw [gI_sI, if_neg (by omega)]; exact G.1, by rw [gI_sI, if_neg (by omega)]; exact G.2⟩, by rw [gI_sI, if_pos ⟨rfl, rfl⟩], fun j h1 h2 => by omega⟩
  | succ r ih =>
    intro k nf h hk hf S e1 e2 G hp
    obtain ⟨f, rfl⟩ : ∃ f, nf = f + 1 := ⟨nf - 1, by omega⟩
    have M := S.1
    have hn := S.2.2.1
    obtain ⟨x, h1, s1, s2, s3⟩ := some_ok (F := F) (dd := dd) (k := 8) (by omega) S G hp hF
    have u1 : gI h1 635 3000 = zI ↑u := by rw [s2.2 _ _ (by omega)]; exact e1
    have st : fX6_want_270 F dd (f + 1) 3000 (zI ↑i) (zI ↑k) h = fX6_want_270 F dd f 3000 (zI ↑i) (zI ↑(k + 1)) (sA h1 3028 (u + k) x) := by
      rw [fX6_want_270]
      simp (disch := omega) only [mp607, mp608, mp609, mp611, mp612, mp613, mp614, mp615, mp616, mp617, mp618, mp619, mp620, mp621, mp622, mp625, mp626, mp631, mp632, mp633, mp636, mp637, mp638, mp639, mp640, mp641, mp642, mp643, mp645, mp646, mp650, mp651, mp652, mp653, mp654, mp655, mp656, mp657, mp658, ln3001, ln3002, ln3003, ln3004, ln3005, ln3006, ln3007, ln3008, ln3009, ln3010, ln3011, ln3012, ln3013, ln3014, ln3015, ln3016, ln3017, ln3018, ln3019, ln3020, ln3021, ln3022, ln3023, ln3024, ln3025, ln3026, ln3027, ln3028, ln3029, ln3030, ln3031, ln3032, ln3033, ln3034, ln3035, ln3036, ln3037, ln3038, ln3039, ck_t, nn_s, bn_d, ca_s, cv_s, oc_n, oc_s, cx_i, cx_r, cy_i, cy_r, gI_sI, gI_sP, gI_sA, gI_sR, gI_sJ, gI_nw, gI_nx, gP_sI, gP_sP, gP_sA, gP_sR, gP_sJ, gP_nw, gP_nx, gA_sI, gA_sP, gA_sA, gA_sR, gA_sJ, gA_nw, gA_nx, gR_sI, gR_sP, gR_sA, gR_sR, gR_sJ, gR_nw, gR_nx, reduceCtorEq, Nat.reduceEqDiff, or_self, or_true, true_or, or_false, false_or, eq_self, and_self, and_true, true_and, and_false, false_and, if_true, if_false, ↓reduceIte, ne_eq, not_true_eq_false, not_false_eq_true, zl0, zl1, zl2, zl3, zl4, zl5, zl6, zl7, zl8, zl9, zl10, zl12, zl15, zl16, zl20, zl31, zl32, zl48, zl97, zl99, zl100, zl120, zl127, zl128, zl129, zl130, zl137, zl150, zl160, zl169, zl254, zl255, zl256, zl4000, zl65535, zl65536, if_pos, if_neg, zn_inb, zn_cl, zn_eq, zn_lt, zn_le, zn_add, zn_sub, zn_mul, zn_addn, zn_eqn, zn_neq, zn_nlt, zn_nle, zn_ckb, isB_b2i, b2z0, b2z1, b2it, b2if, M.2, e2, G.2, s1, u1, e1]
    rw [st]
    have o1 : OQ (u + k) h (sA h1 3028 (u + k) x) := (PQ.oq (lo := u + k) s2).tr (lo' := u + k) ⟨⟨rfl, rfl, rfl⟩, fun _ _ _ => rfl, fun y z q => by rw [gA_sA, if_neg (by omega)]⟩ (Nat.le_refl _)
    unfold tk at s3
    by_cases c : p + 8 * k + 8 ≤ 8 * n
    · rw [if_pos c] at s3
      have S2 : MSrc (sA h1 3028 (u + k) x) b n := by
        have := s2.ms S
        exact ⟨this.1, this.2.1, this.2.2.1, fun i hi => by rw [gA_sA, if_neg (by omega)]; exact this.2.2.2 i hi⟩
      obtain ⟨h', t1, t2, t3⟩ := ih (k + 1) f (sA h1 3028 (u + k) x) (by omega) (by omega) S2 u1 (by rw [gA_sA, if_neg (by omega), s2.1.2.2.2]; exact e2) (by rw [show p + 8 * (k + 1) = p + 8 * k + 8 by omega]; exact s3.2) (by omega)
      refine ⟨h', t1, o1.tr t2 (by omega), ?_⟩
      split at t3
      · next c2 =>
        rw [if_pos c2]
        refine ⟨t3.1, t3.2.1, fun j h1 h2 => ?_⟩
        by_cases cj : j = k
        · rw [cj, t2.2.2 _ _ (by omega), gA_sA, if_pos ⟨rfl, rfl⟩]; exact s3.1
        · exact t3.2.2 j (by omega) h2
      · next c2 => rw [if_neg c2]; exact t3
    · rw [if_neg c] at s3
      have s3 : gI h1 649 3000 = zI ↑(0 : Nat) := s3
      obtain ⟨f2, rfl⟩ : ∃ f2, f = f2 + 1 := ⟨f - 1, by omega⟩
      refine ⟨sI (sA h1 3028 (u + k) x) 635 3000 (zI ↑(u + 0)), ?_, o1.tr (lo' := u + k) ⟨⟨rfl, rfl, rfl⟩, fun g y q => by rw [gI_sI, if_neg (by omega)], fun _ _ _ => rfl⟩ (Nat.le_refl _), ?_⟩
      · have M1 : MP (sA h1 3028 (u + k) x) := (s2.ms S).1
        have e3 : gA (sA h1 3028 (u + k) x) 3022 i = zI ↑K := by rw [gA_sA, if_neg (by omega), s2.1.2.2.2]; exact e2
        have e4 : gI (sA h1 3028 (u + k) x) 649 3000 = zI ↑(0 : Nat) := s3
        have e5 : gI (sA h1 3028 (u + k) x) 635 3000 = zI ↑u := u1
        rw [fX6_want_270]
        unfold fX6_want_313 fX6_want_336
        generalize sA h1 3028 (u + k) x = h9 at M1 e3 e4 e5
        by_cases cc : K ≤ k + 1
        · simp (disch := omega) only [mp607, mp608, mp609, mp611, mp612, mp613, mp614, mp615, mp616, mp617, mp618, mp619, mp620, mp621, mp622, mp625, mp626, mp631, mp632, mp633, mp636, mp637, mp638, mp639, mp640, mp641, mp642, mp643, mp645, mp646, mp650, mp651, mp652, mp653, mp654, mp655, mp656, mp657, mp658, ln3001, ln3002, ln3003, ln3004, ln3005, ln3006, ln3007, ln3008, ln3009, ln3010, ln3011, ln3012, ln3013, ln3014, ln3015, ln3016, ln3017, ln3018, ln3019, ln3020, ln3021, ln3022, ln3023, ln3024, ln3025, ln3026, ln3027, ln3028, ln3029, ln3030, ln3031, ln3032, ln3033, ln3034, ln3035, ln3036, ln3037, ln3038, ln3039, ck_t, nn_s, bn_d, ca_s, cv_s, oc_n, oc_s, cx_i, cx_r, cy_i, cy_r, gI_sI, gI_sP, gI_sA, gI_sR, gI_sJ, gI_nw, gI_nx, gP_sI, gP_sP, gP_sA, gP_sR, gP_sJ, gP_nw, gP_nx, gA_sI, gA_sP, gA_sA, gA_sR, gA_sJ, gA_nw, gA_nx, gR_sI, gR_sP, gR_sA, gR_sR, gR_sJ, gR_nw, gR_nx, reduceCtorEq, Nat.reduceEqDiff, or_self, or_true, true_or, or_false, false_or, eq_self, and_self, and_true, true_and, and_false, false_and, if_true, if_false, ↓reduceIte, ne_eq, not_true_eq_false, not_false_eq_true, zl0, zl1, zl2, zl3, zl4, zl5, zl6, zl7, zl8, zl9, zl10, zl12, zl15, zl16, zl20, zl31, zl32, zl48, zl97, zl99, zl100, zl120, zl127, zl128, zl129, zl130, zl137, zl150, zl160, zl169, zl254, zl255, zl256, zl4000, zl65535, zl65536, if_pos, if_neg, zn_inb, zn_cl, zn_eq, zn_lt, zn_le, zn_add, zn_sub, zn_mul, zn_addn, zn_eqn, zn_neq, zn_nlt, zn_nle, zn_ckb, isB_b2i, b2z0, b2z1, b2it, b2if, M1.2, e3, e4, e5]
        · simp (disch := omega) only [mp607, mp608, mp609, mp611, mp612, mp613, mp614, mp615, mp616, mp617, mp618, mp619, mp620, mp621, mp622, mp625, mp626, mp631, mp632, mp633, mp636, mp637, mp638, mp639, mp640, mp641, mp642, mp643, mp645, mp646, mp650, mp651, mp652, mp653, mp654, mp655, mp656, mp657, mp658, ln3001, ln3002, ln3003, ln3004, ln3005, ln3006, ln3007, ln3008, ln3009, ln3010, ln3011, ln3012, ln3013, ln3014, ln3015, ln3016, ln3017, ln3018, ln3019, ln3020, ln3021, ln3022, ln3023, ln3024, ln3025, ln3026, ln3027, ln3028, ln3029, ln3030, ln3031, ln3032, ln3033, ln3034, ln3035, ln3036, ln3037, ln3038, ln3039, ck_t, nn_s, bn_d, ca_s, cv_s, oc_n, oc_s, cx_i, cx_r, cy_i, cy_r, gI_sI, gI_sP, gI_sA, gI_sR, gI_sJ, gI_nw, gI_nx, gP_sI, gP_sP, gP_sA, gP_sR, gP_sJ, gP_nw, gP_nx, gA_sI, gA_sP, gA_sA, gA_sR, gA_sJ, gA_nw, gA_nx, gR_sI, gR_sP, gR_sA, gR_sR, gR_sJ, gR_nw, gR_nx, reduceCtorEq, Nat.reduceEqDiff, or_self, or_true, true_or, or_false, false_or, eq_self, and_self, and_true, true_and, and_false, false_and, if_true, if_false, ↓reduceIte, ne_eq, not_true_eq_false, not_false_eq_true, zl0, zl1, zl2, zl3, zl4, zl5, zl6, zl7, zl8, zl9, zl10, zl12, zl15, zl16, zl20, zl31, zl32, zl48, zl97, zl99, zl100, zl120, zl127, zl128, zl129, zl130, zl137, zl150, zl160, zl169, zl254, zl255, zl256, zl4000, zl65535, zl65536, if_pos, if_neg, zn_inb, zn_cl, zn_eq, zn_lt, zn_le, zn_add, zn_sub, zn_mul, zn_addn, zn_eqn, zn_neq, zn_nlt, zn_nle, zn_ckb, isB_b2i, b2z0, b2z1, b2it, b2if, M1.2, e3, e4, e5]
      · rw [if_neg (by omega)]; show gI _ 649 3000 = _; rw [gI_sI, if_neg (by omega)]; exact s3
end Mf
