/-! THE MODEL READS (1): bytes, lengths, frames, parts -/
set_option maxRecDepth 100000
def rdI (g : Nat) : Bool := [623, 624, 634, 635, 647, 648, 649].contains g
def rdA (y : Nat) : Bool := [3016, 3017, 3021, 3022, 3023, 3024, 3025, 3028, 3031, 3032, 3033, 3034, 3035].contains y
/-- what reading leaves alone: all else; frames below fr, parts below m, octets below u -/
def KM (fr m u : Nat) (h h' : Hp) : Prop := (gP h' = gP h ∧ gL h' = gL h ∧ gR h' = gR h) ∧ (∀ g y, ¬ (y = 3000 ∧ rdI g = true) → gI h' g y = gI h g y) ∧ (∀ y i, rdA y = false → gA h' y i = gA h y i) ∧
  (∀ y i, 3031 ≤ y → y ≤ 3035 → i < fr → gA h' y i = gA h y i) ∧ (∀ y i, 3021 ≤ y → y ≤ 3025 → i < m → gA h' y i = gA h y i) ∧ ∀ i, i < u → gA h' 3028 i = gA h 3028 i
theorem KM.rf (fr m u : Nat) (h : Hp) : KM fr m u h h := ⟨⟨rfl, rfl, rfl⟩, fun _ _ _ => rfl, fun _ _ _ => rfl, fun _ _ _ _ _ => rfl, fun _ _ _ _ _ => rfl, fun _ _ => rfl⟩
theorem KM.tr {fr m u fr' m' u' : Nat} {h1 h2 h3 : Hp} (a : KM fr m u h1 h2) (l1 : fr ≤ fr') (l2 : m ≤ m') (l3 : u ≤ u') (b : KM fr' m' u' h2 h3) : KM fr m u h1 h3 :=
  ⟨⟨b.1.1.trans a.1.1, b.1.2.1.trans a.1.2.1, b.1.2.2.trans a.1.2.2⟩, fun g y q => (b.2.1 g y q).trans (a.2.1 g y q), fun y i q => (b.2.2.1 y i q).trans (a.2.2.1 y i q), fun y i p q r => (b.2.2.2.1 y i p q (by omega)).trans (a.2.2.2.1 y i p q r), fun y i p q r => (b.2.2.2.2.1 y i p q (by omega)).trans (a.2.2.2.2.1 y i p q r), fun i q => (b.2.2.2.2.2 i (by omega)).trans (a.2.2.2.2.2 i q)⟩
theorem KM.sI {fr m u g : Nat} {h h' : Hp} {v : Int32} (a : KM fr m u h h') (c : rdI g = true) : KM fr m u h (sI h' g 3000 v) :=
  ⟨a.1, fun f y q => by rw [gI_sI, if_neg (fun z => q ⟨z.2, by rw [z.1]; exact c⟩)]; exact a.2.1 f y q, a.2.2⟩
theorem KM.sA {fr m u z j : Nat} {h h' : Hp} {v : Int32} (a : KM fr m u h h') (c : rdA z = true) (c1 : 3031 ≤ z → z ≤ 3035 → fr ≤ j) (c2 : 3021 ≤ z → z ≤ 3025 → m ≤ j) (c3 : z = 3028 → u ≤ j) : KM fr m u h (sA h' z j v) := by
  refine ⟨a.1, a.2.1, fun y i q => ?_, fun y i p q r => ?_, fun y i p q r => ?_, fun i q => ?_⟩
  · rw [gA_sA, if_neg (fun w => by rw [w.1, c] at q; cases q)]; exact a.2.2.1 y i q
  · rw [gA_sA, if_neg (fun w => by have := c1 (by omega) (by omega); omega)]; exact a.2.2.2.1 y i p q r
  · rw [gA_sA, if_neg (fun w => by have := c2 (by omega) (by omega); omega)]; exact a.2.2.2.2.1 y i p q r
  · rw [gA_sA, if_neg (fun w => by have := c3 (by omega); omega)]; exact a.2.2.2.2.2 i q
theorem KM.uw {fr m u : Nat} {h h' : Hp} (a : UW 0 h h') : KM fr m u h h' :=
  ⟨⟨a.1, a.2.1, a.2.2.1⟩, fun g y q => a.2.2.2.1 g y (fun z => q ⟨z.1, by rcases z.2 with w | w <;> rw [w] <;> decide⟩), fun y i q => a.2.2.2.2.1 y i (fun w => by rw [w] at q; revert q; decide) (fun w => by rw [w] at q; revert q; decide), fun y i p q _ => a.2.2.2.2.1 y i (by omega) (by omega), fun y i p q _ => a.2.2.2.2.1 y i (by omega) (by omega), fun i _ => a.2.2.2.2.1 _ i (by omega) (by omega)⟩
theorem KM.mp {fr m u : Nat} {h h' : Hp} (a : KM fr m u h h') (M : MP h) : MP h' := by
  unfold MP at M ⊢
  rw [a.1.1, a.1.2.1]; exact M
theorem KM.mt {fr m u N : Nat} {τ : Tb} {h h' : Hp} (a : KM fr m u h h') (T : MT h τ N) : MT h' τ N := T.fr fun y i h1 h2 => a.2.2.1 y i (by
  have : y = 3004 ∨ y = 3005 ∨ y = 3006 ∨ y = 3007 ∨ y = 3008 ∨ y = 3009 ∨ y = 3010 ∨ y = 3011 ∨ y = 3012 ∨ y = 3013 ∨ y = 3014 ∨ y = 3015 := by omega
  rcases this with z | z | z | z | z | z | z | z | z | z | z | z <;> rw [z] <;> decide)
/-- the source; the place, the end; frames, parts, octets; all is good -/
def MSrc (h : Hp) (b : Nat → Nat) (n : Nat) : Prop := MP h ∧ gI h 628 3000 = zI ↑n ∧ n ≤ 120 ∧ ∀ i, i < n → gA h 3019 i = zI ↑(b i) ∧ b i < 256
theorem KM.ms {fr m u n : Nat} {b : Nat → Nat} {h h' : Hp} (a : KM fr m u h h') (S : MSrc h b n) : MSrc h' b n :=
  ⟨a.mp S.1, (a.2.1 _ _ (by decide)).trans S.2.1, S.2.2.1, fun i hi => ⟨(a.2.2.1 _ _ (by decide)).trans (S.2.2.2 i hi).1, (S.2.2.2 i hi).2⟩⟩
def BE (h : Hp) (fr e : Nat) : Prop := (if fr = 0 then gI h 628 3000 else gA h 3032 (fr - 1)) = zI ↑e
def MR (h : Hp) (a fr m u e : Nat) : Prop := (gI h 647 3000 = zI ↑a ∧ gI h 648 3000 = zI ↑fr ∧ gI h 649 3000 = zI ↑(1 : Nat) ∧ gI h 634 3000 = zI ↑m ∧ gI h 635 3000 = zI ↑u) ∧ BE h fr e ∧ (fr ≤ 150 ∧ m ≤ 100 ∧ u ≤ a ∧ a ≤ e)
/-- not good any more -/
def Bad (h : Hp) : Prop := gI h 649 3000 = zI ↑(0 : Nat)
section Mn
variable {h : Hp} {F d a fr m u e n : Nat} {b : Nat → Nat}
theorem bnd_ok (S : MSrc h b n) (R : MR h a fr m u e) : fX6_bound F d 3000 h = some (zI ↑e, h) := by
  obtain ⟨⟨r1, r2, r3, r4, r5⟩, r6, r7, r8, r9, r10⟩ := R
  unfold fX6_bound
  unfold BE at r6
  by_cases c : fr = 0
  · rw [if_pos c] at r6
    simp (disch := omega) only [mp607, mp608, mp609, mp611, mp612, mp613, mp614, mp615, mp616, mp617, mp618, mp619, mp620, mp621, mp622, mp625, mp626, mp631, mp632, mp633, mp636, mp637, mp638, mp639, mp640, mp641, mp642, mp643, mp645, mp646, mp650, mp651, mp652, mp653, mp654, mp655, mp656, mp657, mp658, ln3001, ln3002, ln3003, ln3004, ln3005, ln3006, ln3007, ln3008, ln3009, ln3010, ln3011, ln3012, ln3013, ln3014, ln3015, ln3016, ln3017, ln3018, ln3019, ln3020, ln3021, ln3022, ln3023, ln3024, ln3025, ln3026, ln3027, ln3028, ln3029, ln3030, ln3031, ln3032, ln3033, ln3034, ln3035, ln3036, ln3037, ln3038, ln3039, ck_t, nn_s, bn_d, ca_s, cv_s, oc_n, oc_s, cx_i, cx_r, cy_i, cy_r, gI_sI, gI_sP, gI_sA, gI_sR, gI_sJ, gI_nw, gI_nx, gP_sI, gP_sP, gP_sA, gP_sR, gP_sJ, gP_nw, gP_nx, gA_sI, gA_sP, gA_sA, gA_sR, gA_sJ, gA_nw, gA_nx, gR_sI, gR_sP, gR_sA, gR_sR, gR_sJ, gR_nw, gR_nx, Nat.reduceEqDiff, or_self, or_true, true_or, or_false, false_or, eq_self, and_self, and_true, true_and, and_false, false_and, if_true, if_false, ↓reduceIte, ne_eq, not_true_eq_false, not_false_eq_true, zl0, zl1, zl2, zl3, zl4, zl5, zl6, zl7, zl8, zl9, zl10, zl12, zl15, zl16, zl20, zl31, zl32, zl48, zl97, zl99, zl100, zl120, zl127, zl128, zl129, zl130, zl137, zl150, zl160, zl169, zl254, zl255, zl256, zl4000, zl65535, zl65536, if_pos, if_neg, zn_inb, zn_cl, zn_eq, zn_lt, zn_le, zn_add, zn_sub, zn_mul, zn_addn, zn_eqn, zn_neq, zn_nlt, zn_nle, zn_ckb, isB_b2i, b2z0, b2z1, b2it, b2if, S.1.2, r2, r6]
  · rw [if_neg c] at r6
    simp (disch := omega) only [mp607, mp608, mp609, mp611, mp612, mp613, mp614, mp615, mp616, mp617, mp618, mp619, mp620, mp621, mp622, mp625, mp626, mp631, mp632, mp633, mp636, mp637, mp638, mp639, mp640, mp641, mp642, mp643, mp645, mp646, mp650, mp651, mp652, mp653, mp654, mp655, mp656, mp657, mp658, ln3001, ln3002, ln3003, ln3004, ln3005, ln3006, ln3007, ln3008, ln3009, ln3010, ln3011, ln3012, ln3013, ln3014, ln3015, ln3016, ln3017, ln3018, ln3019, ln3020, ln3021, ln3022, ln3023, ln3024, ln3025, ln3026, ln3027, ln3028, ln3029, ln3030, ln3031, ln3032, ln3033, ln3034, ln3035, ln3036, ln3037, ln3038, ln3039, ck_t, nn_s, bn_d, ca_s, cv_s, oc_n, oc_s, cx_i, cx_r, cy_i, cy_r, gI_sI, gI_sP, gI_sA, gI_sR, gI_sJ, gI_nw, gI_nx, gP_sI, gP_sP, gP_sA, gP_sR, gP_sJ, gP_nw, gP_nx, gA_sI, gA_sP, gA_sA, gA_sR, gA_sJ, gA_nw, gA_nx, gR_sI, gR_sP, gR_sA, gR_sR, gR_sJ, gR_nw, gR_nx, Nat.reduceEqDiff, or_self, or_true, true_or, or_false, false_or, eq_self, and_self, and_true, true_and, and_false, false_and, if_true, if_false, ↓reduceIte, ne_eq, not_true_eq_false, not_false_eq_true, zl0, zl1, zl2, zl3, zl4, zl5, zl6, zl7, zl8, zl9, zl10, zl12, zl15, zl16, zl20, zl31, zl32, zl48, zl97, zl99, zl100, zl120, zl127, zl128, zl129, zl130, zl137, zl150, zl160, zl169, zl254, zl255, zl256, zl4000, zl65535, zl65536, if_pos, if_neg, zn_inb, zn_cl, zn_eq, zn_lt, zn_le, zn_add, zn_sub, zn_mul, zn_addn, zn_eqn, zn_neq, zn_nlt, zn_nle, zn_ckb, isB_b2i, b2z0, b2z1, b2it, b2if, S.1.2, r2, r6]
theorem mn_in (S : MSrc h b n) (R : MR h a fr m u e) (ha : a < e) (he : e ≤ n) : fX6_next F d 3000 h = some (zI ↑(b a), sI h 647 3000 (zI ↑(a + 1))) := by
  have bd := bnd_ok (F := F) (d := d) S R
  have sa := (S.2.2.2 a (by omega)).1
  have hn := S.2.2.1
  unfold fX6_next fX6_next_16
  simp (disch := omega) only [mp607, mp608, mp609, mp611, mp612, mp613, mp614, mp615, mp616, mp617, mp618, mp619, mp620, mp621, mp622, mp625, mp626, mp631, mp632, mp633, mp636, mp637, mp638, mp639, mp640, mp641, mp642, mp643, mp645, mp646, mp650, mp651, mp652, mp653, mp654, mp655, mp656, mp657, mp658, ln3001, ln3002, ln3003, ln3004, ln3005, ln3006, ln3007, ln3008, ln3009, ln3010, ln3011, ln3012, ln3013, ln3014, ln3015, ln3016, ln3017, ln3018, ln3019, ln3020, ln3021, ln3022, ln3023, ln3024, ln3025, ln3026, ln3027, ln3028, ln3029, ln3030, ln3031, ln3032, ln3033, ln3034, ln3035, ln3036, ln3037, ln3038, ln3039, ck_t, nn_s, bn_d, ca_s, cv_s, oc_n, oc_s, cx_i, cx_r, cy_i, cy_r, gI_sI, gI_sP, gI_sA, gI_sR, gI_sJ, gI_nw, gI_nx, gP_sI, gP_sP, gP_sA, gP_sR, gP_sJ, gP_nw, gP_nx, gA_sI, gA_sP, gA_sA, gA_sR, gA_sJ, gA_nw, gA_nx, gR_sI, gR_sP, gR_sA, gR_sR, gR_sJ, gR_nw, gR_nx, Nat.reduceEqDiff, or_self, or_true, true_or, or_false, false_or, eq_self, and_self, and_true, true_and, and_false, false_and, if_true, if_false, ↓reduceIte, ne_eq, not_true_eq_false, not_false_eq_true, zl0, zl1, zl2, zl3, zl4, zl5, zl6, zl7, zl8, zl9, zl10, zl12, zl15, zl16, zl20, zl31, zl32, zl48, zl97, zl99, zl100, zl120, zl127, zl128, zl129, zl130, zl137, zl150, zl160, zl169, zl254, zl255, zl256, zl4000, zl65535, zl65536, if_pos, if_neg, zn_inb, zn_cl, zn_eq, zn_lt, zn_le, zn_add, zn_sub, zn_mul, zn_addn, zn_eqn, zn_neq, zn_nlt, zn_nle, zn_ckb, isB_b2i, b2z0, b2z1, b2it, b2if, bd, S.1.2, R.1.1, R.1.2.2.1, Nat.add_sub_cancel, sa]
theorem mn_out (S : MSrc h b n) (R : MR h a fr m u e) (ha : e ≤ a) (he : e ≤ n) : fX6_next F d 3000 h = some (zI ↑(0 : Nat), sI (sI h 649 3000 (zI ↑(0 : Nat))) 647 3000 (zI ↑(a + 1))) := by
  have bd := bnd_ok (F := F) (d := d) S R
  have hn := S.2.2.1
  have := R.2.2.2.2.2
  unfold fX6_next fX6_next_16
  simp (disch := omega) only [mp607, mp608, mp609, mp611, mp612, mp613, mp614, mp615, mp616, mp617, mp618, mp619, mp620, mp621, mp622, mp625, mp626, mp631, mp632, mp633, mp636, mp637, mp638, mp639, mp640, mp641, mp642, mp643, mp645, mp646, mp650, mp651, mp652, mp653, mp654, mp655, mp656, mp657, mp658, ln3001, ln3002, ln3003, ln3004, ln3005, ln3006, ln3007, ln3008, ln3009, ln3010, ln3011, ln3012, ln3013, ln3014, ln3015, ln3016, ln3017, ln3018, ln3019, ln3020, ln3021, ln3022, ln3023, ln3024, ln3025, ln3026, ln3027, ln3028, ln3029, ln3030, ln3031, ln3032, ln3033, ln3034, ln3035, ln3036, ln3037, ln3038, ln3039, ck_t, nn_s, bn_d, ca_s, cv_s, oc_n, oc_s, cx_i, cx_r, cy_i, cy_r, gI_sI, gI_sP, gI_sA, gI_sR, gI_sJ, gI_nw, gI_nx, gP_sI, gP_sP, gP_sA, gP_sR, gP_sJ, gP_nw, gP_nx, gA_sI, gA_sP, gA_sA, gA_sR, gA_sJ, gA_nw, gA_nx, gR_sI, gR_sP, gR_sA, gR_sR, gR_sJ, gR_nw, gR_nx, Nat.reduceEqDiff, or_self, or_true, true_or, or_false, false_or, eq_self, and_self, and_true, true_and, and_false, false_and, if_true, if_false, ↓reduceIte, ne_eq, not_true_eq_false, not_false_eq_true, zl0, zl1, zl2, zl3, zl4, zl5, zl6, zl7, zl8, zl9, zl10, zl12, zl15, zl16, zl20, zl31, zl32, zl48, zl97, zl99, zl100, zl120, zl127, zl128, zl129, zl130, zl137, zl150, zl160, zl169, zl254, zl255, zl256, zl4000, zl65535, zl65536, if_pos, if_neg, zn_inb, zn_cl, zn_eq, zn_lt, zn_le, zn_add, zn_sub, zn_mul, zn_addn, zn_eqn, zn_neq, zn_nlt, zn_nle, zn_ckb, isB_b2i, b2z0, b2z1, b2it, b2if, bd, S.1.2, R.1.1, R.1.2.2.1, Nat.add_sub_cancel]
/-- a state that is not good -/
def BD (h : Hp) (a fr : Nat) : Prop := MP h ∧ gI h 647 3000 = zI ↑a ∧ gI h 648 3000 = zI ↑fr ∧ Bad h ∧ fr ≤ 159 ∧ a < 100000
theorem bnd_b (B : BD h a fr) : ∃ x, fX6_bound F d 3000 h = some (x, h) := by
  obtain ⟨M, b1, b2, b3, b4, b5⟩ := B
  unfold fX6_bound
  by_cases c : fr = 0
  · simp (disch := omega) only [mp607, mp608, mp609, mp611, mp612, mp613, mp614, mp615, mp616, mp617, mp618, mp619, mp620, mp621, mp622, mp625, mp626, mp631, mp632, mp633, mp636, mp637, mp638, mp639, mp640, mp641, mp642, mp643, mp645, mp646, mp650, mp651, mp652, mp653, mp654, mp655, mp656, mp657, mp658, ln3001, ln3002, ln3003, ln3004, ln3005, ln3006, ln3007, ln3008, ln3009, ln3010, ln3011, ln3012, ln3013, ln3014, ln3015, ln3016, ln3017, ln3018, ln3019, ln3020, ln3021, ln3022, ln3023, ln3024, ln3025, ln3026, ln3027, ln3028, ln3029, ln3030, ln3031, ln3032, ln3033, ln3034, ln3035, ln3036, ln3037, ln3038, ln3039, ck_t, nn_s, bn_d, ca_s, cv_s, oc_n, oc_s, cx_i, cx_r, cy_i, cy_r, gI_sI, gI_sP, gI_sA, gI_sR, gI_sJ, gI_nw, gI_nx, gP_sI, gP_sP, gP_sA, gP_sR, gP_sJ, gP_nw, gP_nx, gA_sI, gA_sP, gA_sA, gA_sR, gA_sJ, gA_nw, gA_nx, gR_sI, gR_sP, gR_sA, gR_sR, gR_sJ, gR_nw, gR_nx, Nat.reduceEqDiff, or_self, or_true, true_or, or_false, false_or, eq_self, and_self, and_true, true_and, and_false, false_and, if_true, if_false, ↓reduceIte, ne_eq, not_true_eq_false, not_false_eq_true, zl0, zl1, zl2, zl3, zl4, zl5, zl6, zl7, zl8, zl9, zl10, zl12, zl15, zl16, zl20, zl31, zl32, zl48, zl97, zl99, zl100, zl120, zl127, zl128, zl129, zl130, zl137, zl150, zl160, zl169, zl254, zl255, zl256, zl4000, zl65535, zl65536, if_pos, if_neg, zn_inb, zn_cl, zn_eq, zn_lt, zn_le, zn_add, zn_sub, zn_mul, zn_addn, zn_eqn, zn_neq, zn_nlt, zn_nle, zn_ckb, isB_b2i, b2z0, b2z1, b2it, b2if, M.2, b2]; exact ⟨_, rfl⟩
  · simp (disch := omega) only [mp607, mp608, mp609, mp611, mp612, mp613, mp614, mp615, mp616, mp617, mp618, mp619, mp620, mp621, mp622, mp625, mp626, mp631, mp632, mp633, mp636, mp637, mp638, mp639, mp640, mp641, mp642, mp643, mp645, mp646, mp650, mp651, mp652, mp653, mp654, mp655, mp656, mp657, mp658, ln3001, ln3002, ln3003, ln3004, ln3005, ln3006, ln3007, ln3008, ln3009, ln3010, ln3011, ln3012, ln3013, ln3014, ln3015, ln3016, ln3017, ln3018, ln3019, ln3020, ln3021, ln3022, ln3023, ln3024, ln3025, ln3026, ln3027, ln3028, ln3029, ln3030, ln3031, ln3032, ln3033, ln3034, ln3035, ln3036, ln3037, ln3038, ln3039, ck_t, nn_s, bn_d, ca_s, cv_s, oc_n, oc_s, cx_i, cx_r, cy_i, cy_r, gI_sI, gI_sP, gI_sA, gI_sR, gI_sJ, gI_nw, gI_nx, gP_sI, gP_sP, gP_sA, gP_sR, gP_sJ, gP_nw, gP_nx, gA_sI, gA_sP, gA_sA, gA_sR, gA_sJ, gA_nw, gA_nx, gR_sI, gR_sP, gR_sA, gR_sR, gR_sJ, gR_nw, gR_nx, Nat.reduceEqDiff, or_self, or_true, true_or, or_false, false_or, eq_self, and_self, and_true, true_and, and_false, false_and, if_true, if_false, ↓reduceIte, ne_eq, not_true_eq_false, not_false_eq_true, zl0, zl1, zl2, zl3, zl4, zl5, zl6, zl7, zl8, zl9, zl10, zl12, zl15, zl16, zl20, zl31, zl32, zl48, zl97, zl99, zl100, zl120, zl127, zl128, zl129, zl130, zl137, zl150, zl160, zl169, zl254, zl255, zl256, zl4000, zl65535, zl65536, if_pos, if_neg, zn_inb, zn_cl, zn_eq, zn_lt, zn_le, zn_add, zn_sub, zn_mul, zn_addn, zn_eqn, zn_neq, zn_nlt, zn_nle, zn_ckb, isB_b2i, b2z0, b2z1, b2it, b2if, M.2, b2]; exact ⟨_, rfl⟩
theorem BD.st (B : BD h a fr) {x : Nat} (hx : x < 100000) : BD (sI h 647 3000 (zI ↑x)) x fr :=
  ⟨B.1, by rw [gI_sI, if_pos ⟨rfl, rfl⟩], by rw [gI_sI, if_neg (by decide)]; exact B.2.2.1, by unfold Bad; rw [gI_sI, if_neg (by decide)]; exact B.2.2.2.1, B.2.2.2.2.1, hx⟩
theorem BD.sb (M : MP h) (h1 : gI h 647 3000 = zI ↑a) (h2 : gI h 648 3000 = zI ↑fr) (h3 : fr ≤ 159) (h4 : a < 100000) : BD (sI h 649 3000 (zI ↑(0 : Nat))) a fr :=
  ⟨M, by rw [gI_sI, if_neg (by decide)]; exact h1, by rw [gI_sI, if_neg (by decide)]; exact h2, by unfold Bad; rw [gI_sI, if_pos ⟨rfl, rfl⟩], h3, h4⟩
theorem mn_b (B : BD h a fr) (ha : a < 99000) : ∃ h', fX6_next F d 3000 h = some (zI ↑(0 : Nat), h') ∧ BD h' (a + 1) fr ∧ KM 0 0 0 h h' := by
  obtain ⟨x, bd⟩ := bnd_b (F := F) (d := d) B
  have B0 := B
  obtain ⟨M, b1, b2, b3, b4, b5⟩ := B
  unfold Bad at b3
  unfold fX6_next fX6_next_16
  rw [bd, ca_s, b1]
  by_cases c : zI ↑a < x
  · rw [if_pos c]
    simp (disch := omega) only [mp607, mp608, mp609, mp611, mp612, mp613, mp614, mp615, mp616, mp617, mp618, mp619, mp620, mp621, mp622, mp625, mp626, mp631, mp632, mp633, mp636, mp637, mp638, mp639, mp640, mp641, mp642, mp643, mp645, mp646, mp650, mp651, mp652, mp653, mp654, mp655, mp656, mp657, mp658, ln3001, ln3002, ln3003, ln3004, ln3005, ln3006, ln3007, ln3008, ln3009, ln3010, ln3011, ln3012, ln3013, ln3014, ln3015, ln3016, ln3017, ln3018, ln3019, ln3020, ln3021, ln3022, ln3023, ln3024, ln3025, ln3026, ln3027, ln3028, ln3029, ln3030, ln3031, ln3032, ln3033, ln3034, ln3035, ln3036, ln3037, ln3038, ln3039, ck_t, nn_s, bn_d, ca_s, cv_s, oc_n, oc_s, cx_i, cx_r, cy_i, cy_r, gI_sI, gI_sP, gI_sA, gI_sR, gI_sJ, gI_nw, gI_nx, gP_sI, gP_sP, gP_sA, gP_sR, gP_sJ, gP_nw, gP_nx, gA_sI, gA_sP, gA_sA, gA_sR, gA_sJ, gA_nw, gA_nx, gR_sI, gR_sP, gR_sA, gR_sR, gR_sJ, gR_nw, gR_nx, Nat.reduceEqDiff, or_self, or_true, true_or, or_false, false_or, eq_self, and_self, and_true, true_and, and_false, false_and, if_true, if_false, ↓reduceIte, ne_eq, not_true_eq_false, not_false_eq_true, zl0, zl1, zl2, zl3, zl4, zl5, zl6, zl7, zl8, zl9, zl10, zl12, zl15, zl16, zl20, zl31, zl32, zl48, zl97, zl99, zl100, zl120, zl127, zl128, zl129, zl130, zl137, zl150, zl160, zl169, zl254, zl255, zl256, zl4000, zl65535, zl65536, if_pos, if_neg, zn_inb, zn_cl, zn_eq, zn_lt, zn_le, zn_add, zn_sub, zn_mul, zn_addn, zn_eqn, zn_neq, zn_nlt, zn_nle, zn_ckb, isB_b2i, b2z0, b2z1, b2it, b2if, b1, b3]
    exact ⟨_, rfl, B0.st (by omega), (KM.rf _ _ _ _).sI (by decide)⟩
  · rw [if_neg c]
    simp (disch := omega) only [mp607, mp608, mp609, mp611, mp612, mp613, mp614, mp615, mp616, mp617, mp618, mp619, mp620, mp621, mp622, mp625, mp626, mp631, mp632, mp633, mp636, mp637, mp638, mp639, mp640, mp641, mp642, mp643, mp645, mp646, mp650, mp651, mp652, mp653, mp654, mp655, mp656, mp657, mp658, ln3001, ln3002, ln3003, ln3004, ln3005, ln3006, ln3007, ln3008, ln3009, ln3010, ln3011, ln3012, ln3013, ln3014, ln3015, ln3016, ln3017, ln3018, ln3019, ln3020, ln3021, ln3022, ln3023, ln3024, ln3025, ln3026, ln3027, ln3028, ln3029, ln3030, ln3031, ln3032, ln3033, ln3034, ln3035, ln3036, ln3037, ln3038, ln3039, ck_t, nn_s, bn_d, ca_s, cv_s, oc_n, oc_s, cx_i, cx_r, cy_i, cy_r, gI_sI, gI_sP, gI_sA, gI_sR, gI_sJ, gI_nw, gI_nx, gP_sI, gP_sP, gP_sA, gP_sR, gP_sJ, gP_nw, gP_nx, gA_sI, gA_sP, gA_sA, gA_sR, gA_sJ, gA_nw, gA_nx, gR_sI, gR_sP, gR_sA, gR_sR, gR_sJ, gR_nw, gR_nx, Nat.reduceEqDiff, or_self, or_true, true_or, or_false, false_or, eq_self, and_self, and_true, true_and, and_false, false_and, if_true, if_false, ↓reduceIte, ne_eq, not_true_eq_false, not_false_eq_true, zl0, zl1, zl2, zl3, zl4, zl5, zl6, zl7, zl8, zl9, zl10, zl12, zl15, zl16, zl20, zl31, zl32, zl48, zl97, zl99, zl100, zl120, zl127, zl128, zl129, zl130, zl137, zl150, zl160, zl169, zl254, zl255, zl256, zl4000, zl65535, zl65536, if_pos, if_neg, zn_inb, zn_cl, zn_eq, zn_lt, zn_le, zn_add, zn_sub, zn_mul, zn_addn, zn_eqn, zn_neq, zn_nlt, zn_nle, zn_ckb, isB_b2i, b2z0, b2z1, b2it, b2if, b1, b3]
    exact ⟨_, rfl, (BD.sb M b1 b2 b4 b5).st (by omega), ((KM.rf _ _ _ _).sI (by decide)).sI (by decide)⟩
theorem ml73_b (B : BD h a fr) (x : Int32) : ∃ h', fX6_length_73 F d 3000 x h = some (zI ↑(0 : Nat), h') ∧ BD h' a fr ∧ KM 0 0 0 h h' := by
  obtain ⟨y, bd⟩ := bnd_b (F := F) (d := d) B
  have B0 := B
  obtain ⟨M, b1, b2, b3, b4, b5⟩ := B
  unfold Bad at b3
  unfold fX6_length_73 fX6_length_91
  rw [bd, ca_s]
  by_cases c : gI h 647 3000 + x ≤ y
  · rw [if_pos c]
    simp (disch := omega) only [mp607, mp608, mp609, mp611, mp612, mp613, mp614, mp615, mp616, mp617, mp618, mp619, mp620, mp621, mp622, mp625, mp626, mp631, mp632, mp633, mp636, mp637, mp638, mp639, mp640, mp641, mp642, mp643, mp645, mp646, mp650, mp651, mp652, mp653, mp654, mp655, mp656, mp657, mp658, ln3001, ln3002, ln3003, ln3004, ln3005, ln3006, ln3007, ln3008, ln3009, ln3010, ln3011, ln3012, ln3013, ln3014, ln3015, ln3016, ln3017, ln3018, ln3019, ln3020, ln3021, ln3022, ln3023, ln3024, ln3025, ln3026, ln3027, ln3028, ln3029, ln3030, ln3031, ln3032, ln3033, ln3034, ln3035, ln3036, ln3037, ln3038, ln3039, ck_t, nn_s, bn_d, ca_s, cv_s, oc_n, oc_s, cx_i, cx_r, cy_i, cy_r, gI_sI, gI_sP, gI_sA, gI_sR, gI_sJ, gI_nw, gI_nx, gP_sI, gP_sP, gP_sA, gP_sR, gP_sJ, gP_nw, gP_nx, gA_sI, gA_sP, gA_sA, gA_sR, gA_sJ, gA_nw, gA_nx, gR_sI, gR_sP, gR_sA, gR_sR, gR_sJ, gR_nw, gR_nx, Nat.reduceEqDiff, or_self, or_true, true_or, or_false, false_or, eq_self, and_self, and_true, true_and, and_false, false_and, if_true, if_false, ↓reduceIte, ne_eq, not_true_eq_false, not_false_eq_true, zl0, zl1, zl2, zl3, zl4, zl5, zl6, zl7, zl8, zl9, zl10, zl12, zl15, zl16, zl20, zl31, zl32, zl48, zl97, zl99, zl100, zl120, zl127, zl128, zl129, zl130, zl137, zl150, zl160, zl169, zl254, zl255, zl256, zl4000, zl65535, zl65536, if_pos, if_neg, zn_inb, zn_cl, zn_eq, zn_lt, zn_le, zn_add, zn_sub, zn_mul, zn_addn, zn_eqn, zn_neq, zn_nlt, zn_nle, zn_ckb, isB_b2i, b2z0, b2z1, b2it, b2if, b3]
    exact ⟨_, rfl, B0, KM.rf _ _ _ _⟩
  · rw [if_neg c]
    simp (disch := omega) only [mp607, mp608, mp609, mp611, mp612, mp613, mp614, mp615, mp616, mp617, mp618, mp619, mp620, mp621, mp622, mp625, mp626, mp631, mp632, mp633, mp636, mp637, mp638, mp639, mp640, mp641, mp642, mp643, mp645, mp646, mp650, mp651, mp652, mp653, mp654, mp655, mp656, mp657, mp658, ln3001, ln3002, ln3003, ln3004, ln3005, ln3006, ln3007, ln3008, ln3009, ln3010, ln3011, ln3012, ln3013, ln3014, ln3015, ln3016, ln3017, ln3018, ln3019, ln3020, ln3021, ln3022, ln3023, ln3024, ln3025, ln3026, ln3027, ln3028, ln3029, ln3030, ln3031, ln3032, ln3033, ln3034, ln3035, ln3036, ln3037, ln3038, ln3039, ck_t, nn_s, bn_d, ca_s, cv_s, oc_n, oc_s, cx_i, cx_r, cy_i, cy_r, gI_sI, gI_sP, gI_sA, gI_sR, gI_sJ, gI_nw, gI_nx, gP_sI, gP_sP, gP_sA, gP_sR, gP_sJ, gP_nw, gP_nx, gA_sI, gA_sP, gA_sA, gA_sR, gA_sJ, gA_nw, gA_nx, gR_sI, gR_sP, gR_sA, gR_sR, gR_sJ, gR_nw, gR_nx, Nat.reduceEqDiff, or_self, or_true, true_or, or_false, false_or, eq_self, and_self, and_true, true_and, and_false, false_and, if_true, if_false, ↓reduceIte, ne_eq, not_true_eq_false, not_false_eq_true, zl0, zl1, zl2, zl3, zl4, zl5, zl6, zl7, zl8, zl9, zl10, zl12, zl15, zl16, zl20, zl31, zl32, zl48, zl97, zl99, zl100, zl120, zl127, zl128, zl129, zl130, zl137, zl150, zl160, zl169, zl254, zl255, zl256, zl4000, zl65535, zl65536, if_pos, if_neg, zn_inb, zn_cl, zn_eq, zn_lt, zn_le, zn_add, zn_sub, zn_mul, zn_addn, zn_eqn, zn_neq, zn_nlt, zn_nle, zn_ckb, isB_b2i, b2z0, b2z1, b2it, b2if, b3]
    exact ⟨_, rfl, BD.sb M b1 b2 b4 b5, (KM.rf _ _ _ _).sI (by decide)⟩
theorem ml37_b (B : BD h a fr) (ha : a < 90000) (x : Int32) : ∃ a' h', fX6_length_37 F d 3000 x h = some (zI ↑(0 : Nat), h') ∧ BD h' a' fr ∧ KM 0 0 0 h h' := by
  unfold fX6_length_37
  by_cases c : x = 129
  · rw [if_pos c]
    obtain ⟨h1, e1, B1, K1⟩ := mn_b (F := F) (d := d) B (by omega)
    rw [e1, ca_s]
    obtain ⟨h2, e2, B2, K2⟩ := ml73_b (F := F) (d := d) B1 (zI ↑(0 : Nat))
    exact ⟨_, h2, e2, B2, K1.tr (Nat.le_refl _) (Nat.le_refl _) (Nat.le_refl _) K2⟩
  · rw [if_neg c]
    by_cases c2 : x = 130
    · rw [if_pos c2]
      obtain ⟨h1, e1, B1, K1⟩ := mn_b (F := F) (d := d) B (by omega)
      obtain ⟨h2, e2, B2, K2⟩ := mn_b (F := F) (d := d) B1 (by omega)
      rw [e1, ca_s, e2, ca_s, bn_d]
      obtain ⟨h3, e3, B3, K3⟩ := ml73_b (F := F) (d := d) B2 (256 * zI ↑(0 : Nat) + zI ↑(0 : Nat))
      exact ⟨_, h3, e3, B3, (K1.tr (Nat.le_refl _) (Nat.le_refl _) (Nat.le_refl _) K2).tr (Nat.le_refl _) (Nat.le_refl _) (Nat.le_refl _) K3⟩
    · rw [if_neg c2]
      obtain ⟨h3, e3, B3, K3⟩ := ml73_b (F := F) (d := d) B x
      exact ⟨_, h3, e3, B3, K3⟩
end Mn
