/-! THE MODEL WRITES (4): DER, the bytes brought to the front; is it a value -/
set_option maxRecDepth 100000
section Mx
variable {F dd N : Nat} {τ : Tb}
theorem shift_ok {s : Nat} (hs : 0 < s) (hs2 : s ≤ 4000) : ∀ (r x nf : Nat) (h : Hp), x + r = 4000 → s ≤ x → r < nf → MP h → gI h 629 3000 = zI ↑s →
    ∃ h', fX6_write_75 F dd nf 3000 1 (zI ↑x) h = some h' ∧ gI h' 629 3000 = zI ↑(4000 - s) ∧ (∀ i, x - s ≤ i → i < 4000 - s → gA h' 3020 i = gA h 3020 (i + s)) ∧ (∀ i, i < x - s → gA h' 3020 i = gA h 3020 i) ∧ WW 4000 0 0 h h' := by
  intro r
  induction r with
  | zero =>
    intro x nf h hx hsx hn M e
    obtain ⟨f, rfl⟩ : ∃ f, nf = f + 1 := ⟨nf - 1, by omega⟩
    refine ⟨sI h 629 3000 (zI ↑(4000 - s)), ?_, by rw [gI_sI, if_pos ⟨rfl, rfl⟩], fun i h1 h2 => by exfalso; omega, fun i _ => rfl, ⟨⟨rfl, rfl, rfl⟩, fun g y q => by rw [gI_sI, if_neg (by omega)], fun _ _ _ _ _ _ => rfl⟩⟩
    rw [fX6_write_75]
    simp (disch := omega) only [mp607, mp608, mp609, mp611, mp612, mp613, mp614, mp615, mp616, mp617, mp618, mp619, mp620, mp621, mp622, mp625, mp626, mp631, mp632, mp633, mp636, mp637, mp638, mp639, mp640, mp641, mp642, mp643, mp645, mp646, mp650, mp651, mp652, mp653, mp654, mp655, mp656, mp657, mp658, ln3001, ln3002, ln3003, ln3004, ln3005, ln3006, ln3007, ln3008, ln3009, ln3010, ln3011, ln3012, ln3013, ln3014, ln3015, ln3016, ln3017, ln3018, ln3019, ln3020, ln3021, ln3022, ln3023, ln3024, ln3025, ln3026, ln3027, ln3028, ln3029, ln3030, ln3031, ln3032, ln3033, ln3034, ln3035, ln3036, ln3037, ln3038, ln3039, ck_t, nn_s, bn_d, ca_s, cv_s, oc_n, oc_s, cx_i, cx_r, cy_i, cy_r, gI_sI, gI_sP, gI_sA, gI_sR, gI_sJ, gI_nw, gI_nx, gP_sI, gP_sP, gP_sA, gP_sR, gP_sJ, gP_nw, gP_nx, gA_sI, gA_sP, gA_sA, gA_sR, gA_sJ, gA_nw, gA_nx, gR_sI, gR_sP, gR_sA, gR_sR, gR_sJ, gR_nw, gR_nx, reduceCtorEq, Nat.reduceEqDiff, or_self, or_true, true_or, or_false, false_or, eq_self, and_self, and_true, true_and, and_false, false_and, if_true, if_false, ↓reduceIte, ne_eq, not_true_eq_false, not_false_eq_true, zl0, zl1, zl2, zl3, zl4, zl5, zl6, zl7, zl8, zl9, zl10, zl12, zl15, zl16, zl20, zl31, zl32, zl48, zl97, zl99, zl100, zl120, zl127, zl128, zl129, zl130, zl137, zl150, zl160, zl169, zl254, zl255, zl256, zl4000, zl65535, zl65536, if_pos, if_neg, zn_inb, zn_cl, zn_eq, zn_lt, zn_le, zn_add, zn_sub, zn_mul, zn_addn, zn_eqn, zn_neq, zn_nlt, zn_nle, zn_ckb, isB_b2i, b2z0, b2z1, b2it, b2if, M.2, e]
  | succ r ih =>
    intro x nf h hx hsx hn M e
    obtain ⟨f, rfl⟩ : ∃ f, nf = f + 1 := ⟨nf - 1, by omega⟩
    obtain ⟨h', e1, a1, a2, a3, a4⟩ := ih (x + 1) f (sA h 3020 (x - s) (gA h 3020 x)) (by omega) (by omega) (by omega) M e
    refine ⟨h', ?_, a1, fun i h1 h2 => ?_, fun i h1 => ?_, ?_⟩
    · rw [← e1, fX6_write_75]
      simp (disch := omega) only [mp607, mp608, mp609, mp611, mp612, mp613, mp614, mp615, mp616, mp617, mp618, mp619, mp620, mp621, mp622, mp625, mp626, mp631, mp632, mp633, mp636, mp637, mp638, mp639, mp640, mp641, mp642, mp643, mp645, mp646, mp650, mp651, mp652, mp653, mp654, mp655, mp656, mp657, mp658, ln3001, ln3002, ln3003, ln3004, ln3005, ln3006, ln3007, ln3008, ln3009, ln3010, ln3011, ln3012, ln3013, ln3014, ln3015, ln3016, ln3017, ln3018, ln3019, ln3020, ln3021, ln3022, ln3023, ln3024, ln3025, ln3026, ln3027, ln3028, ln3029, ln3030, ln3031, ln3032, ln3033, ln3034, ln3035, ln3036, ln3037, ln3038, ln3039, ck_t, nn_s, bn_d, ca_s, cv_s, oc_n, oc_s, cx_i, cx_r, cy_i, cy_r, gI_sI, gI_sP, gI_sA, gI_sR, gI_sJ, gI_nw, gI_nx, gP_sI, gP_sP, gP_sA, gP_sR, gP_sJ, gP_nw, gP_nx, gA_sI, gA_sP, gA_sA, gA_sR, gA_sJ, gA_nw, gA_nx, gR_sI, gR_sP, gR_sA, gR_sR, gR_sJ, gR_nw, gR_nx, reduceCtorEq, Nat.reduceEqDiff, or_self, or_true, true_or, or_false, false_or, eq_self, and_self, and_true, true_and, and_false, false_and, if_true, if_false, ↓reduceIte, ne_eq, not_true_eq_false, not_false_eq_true, zl0, zl1, zl2, zl3, zl4, zl5, zl6, zl7, zl8, zl9, zl10, zl12, zl15, zl16, zl20, zl31, zl32, zl48, zl97, zl99, zl100, zl120, zl127, zl128, zl129, zl130, zl137, zl150, zl160, zl169, zl254, zl255, zl256, zl4000, zl65535, zl65536, if_pos, if_neg, zn_inb, zn_cl, zn_eq, zn_lt, zn_le, zn_add, zn_sub, zn_mul, zn_addn, zn_eqn, zn_neq, zn_nlt, zn_nle, zn_ckb, isB_b2i, b2z0, b2z1, b2it, b2if, M.2, e]
    · by_cases c : i = x - s
      · rw [a3 i (by omega), gA_sA, if_pos ⟨rfl, c⟩, c, show x - s + s = x by omega]
      · rw [a2 i (by omega) h2, gA_sA, if_neg (by omega)]
    · rw [a3 i (by omega), gA_sA, if_neg (by omega)]
    · exact ⟨a4.1, a4.2.1, fun y i q1 q2 q3 q4 => by rw [a4.2.2 y i q1 q2 q3 q4, gA_sA, if_neg (by omega)]⟩
/-- the bytes made -/
def MB (h : Hp) (W : List Nat) : Prop := gI h 629 3000 = zI ↑W.length ∧ ∀ (k x : Nat), W[k]? = some x → gA h 3020 k = zI ↑x
/-- what writing changes -/
def W1 (h h' : Hp) : Prop := (gP h' = gP h ∧ gL h' = gL h ∧ gR h' = gR h) ∧ (∀ g y, ¬ (y = 3000 ∧ (g = 623 ∨ g = 624 ∨ g = 629 ∨ g = 630)) → gI h' g y = gI h g y) ∧
  ∀ y i, ¬ y = 3016 → ¬ y = 3017 → ¬ y = 3020 → ¬ y = 3027 → gA h' y i = gA h y i
theorem write1_ok {h : Hp} {d : Nat} {v : Vt d} {as t jt : Nat} (M : MP h) (T : MT h τ N) (hM : gI h 634 3000 = zI ↑(sz d v)) (p : PV h τ d v 0 0 (-1) as t) (bw : BW h d v 0) (vo : VOk τ d v t) (ht : t < N) (w : WFt τ jt t) (hj : jt ≤ 8) (has : as < 1000) (hs : sz d v ≤ 100) (ho : oz d v ≤ 120) (hF : 5000 ≤ F) :
    ∃ h', fX6_write F dd 3000 1 h = some h' ∧ MB h' (enc τ d v t none) ∧ W1 h h' := by
  have le := enc_2600 (g := none) vo w hj hs ho
  generalize hh2 : sA (sI (sI h 630 3000 (zI ↑(0 : Nat))) 629 3000 (zI ↑(4000 : Nat))) 3027 (sz d v) (zI ↑(4000 : Nat)) = h2
  have M2 : MP h2 := by rw [← hh2]; exact M
  have W2 : WW 4000 0 101 (sI h 630 3000 (zI ↑(0 : Nat))) h2 := by
    rw [← hh2]
    exact ⟨⟨rfl, rfl, rfl⟩, fun g y q => by rw [gI_sA, gI_sI, if_neg (by omega)], fun y i q1 q2 q3 q4 => by rw [gA_sA, if_neg (by omega)]; rfl⟩
  have T0 : MT (sI h 630 3000 (zI ↑(0 : Nat))) τ N := T
  have p0 : PV (sI h 630 3000 (zI ↑(0 : Nat))) τ d v 0 0 (-1) as t := PV.fr2 (h := h) (h' := sI h 630 3000 (zI ↑(0 : Nat))) (lo := 0) (fun y i _ _ _ => rfl) (fun i => rfl) p (Nat.zero_le _)
  have b0 : BW (sI h 630 3000 (zI ↑(0 : Nat))) d v 0 := BW.fr (h := h) (h' := sI h 630 3000 (zI ↑(0 : Nat))) (lo := 0) (hi := 0 + sz d v) (fun i _ _ => rfl) bw (Nat.zero_le _) (Nat.le_refl _)
  have eO : encO τ none as d v t = enc τ d v t none := rfl
  obtain ⟨h3, e3, n3, w3, s3⟩ := wr_ok (F := F) (dd := dd) (by omega) d v 0 0 (-1) as t jt (F - sz d v) 4000 none h2 M2 (W2.mt T0) (W2.pv p0) (W2.bw b0) vo ht w (by omega) (by omega) (by omega) rfl (fun q' hq' => by cases hq') has ⟨by rw [← hh2, gI_sA, gI_sI, if_pos ⟨rfl, rfl⟩]; rfl, Nat.zero_le _, Nat.le_refl _, fun k y hy => by cases hy⟩ (by rw [← hh2, gA_sA, if_pos ⟨rfl, by omega⟩]) (by rw [eO]; omega)
  rw [eO] at n3 s3
  obtain ⟨n31, n32, n33, n34⟩ := n3
  obtain ⟨h4, e4, a1, a2, a3, a4⟩ := shift_ok (F := F) (dd := dd) (s := 4000 - (enc τ d v t none).length) (by omega) (by omega) (enc τ d v t none).length (4000 - (enc τ d v t none).length) F h3 (by omega) (Nat.le_refl _) (by omega) (w3.mp M2) n31
  refine ⟨h4, ?_, ⟨by rw [a1]; congr 2; omega, fun k x hx => ?_⟩, ?_⟩
  · have c : fX6_write F dd 3000 1 h = fX6_write_32 F dd F 3000 1 (zI ↑(sz d v) - 1) h2 := by
      unfold fX6_write
      rw [← hh2]
      simp (disch := omega) only [mp607, mp608, mp609, mp611, mp612, mp613, mp614, mp615, mp616, mp617, mp618, mp619, mp620, mp621, mp622, mp625, mp626, mp631, mp632, mp633, mp636, mp637, mp638, mp639, mp640, mp641, mp642, mp643, mp645, mp646, mp650, mp651, mp652, mp653, mp654, mp655, mp656, mp657, mp658, ln3001, ln3002, ln3003, ln3004, ln3005, ln3006, ln3007, ln3008, ln3009, ln3010, ln3011, ln3012, ln3013, ln3014, ln3015, ln3016, ln3017, ln3018, ln3019, ln3020, ln3021, ln3022, ln3023, ln3024, ln3025, ln3026, ln3027, ln3028, ln3029, ln3030, ln3031, ln3032, ln3033, ln3034, ln3035, ln3036, ln3037, ln3038, ln3039, ck_t, nn_s, bn_d, ca_s, cv_s, oc_n, oc_s, cx_i, cx_r, cy_i, cy_r, gI_sI, gI_sP, gI_sA, gI_sR, gI_sJ, gI_nw, gI_nx, gP_sI, gP_sP, gP_sA, gP_sR, gP_sJ, gP_nw, gP_nx, gA_sI, gA_sP, gA_sA, gA_sR, gA_sJ, gA_nw, gA_nx, gR_sI, gR_sP, gR_sA, gR_sR, gR_sJ, gR_nw, gR_nx, reduceCtorEq, Nat.reduceEqDiff, or_self, or_true, true_or, or_false, false_or, eq_self, and_self, and_true, true_and, and_false, false_and, if_true, if_false, ↓reduceIte, ne_eq, not_true_eq_false, not_false_eq_true, zl0, zl1, zl2, zl3, zl4, zl5, zl6, zl7, zl8, zl9, zl10, zl12, zl15, zl16, zl20, zl31, zl32, zl48, zl97, zl99, zl100, zl120, zl127, zl128, zl129, zl130, zl137, zl150, zl160, zl169, zl254, zl255, zl256, zl4000, zl65535, zl65536, if_pos, if_neg, zn_inb, zn_cl, zn_eq, zn_lt, zn_le, zn_add, zn_sub, zn_mul, zn_addn, zn_eqn, zn_neq, zn_nlt, zn_nle, zn_ckb, isB_b2i, b2z0, b2z1, b2it, b2if, M.2, hM]
    obtain ⟨f, hf⟩ : ∃ f, F - sz d v = f + 1 := ⟨F - sz d v - 1, by omega⟩
    rw [show F - sz d v + sz d v = F by omega] at e3
    rw [c, show zI ↑(sz d v) - 1 = zI ((0 : Nat) + sz d v - 1 : Int) from by rw [zl1, zI_sub]; congr 1; omega, e3, hf, fX6_write_32, if_pos (by decide)]
    unfold fX6_write_70
    rw [bn_d, n31, e4]
  · have hk : k < (enc τ d v t none).length := (List.getElem?_eq_some_iff.mp hx).1
    rw [a2 k (by omega) (by omega), show k + (4000 - (enc τ d v t none).length) = 4000 - (enc τ d v t none).length + k by omega]
    exact n34 k x hx
  · have w4 : WW 4000 0 101 (sI h 630 3000 (zI ↑(0 : Nat))) h4 := (W2.tr w3 (E := 4000) (lo := 0) (hi := 101) (by omega) (by omega) (by omega) (by omega) (by omega) (by omega)).tr a4 (by omega) (by omega) (by omega) (by omega) (by omega) (by omega)
    exact ⟨w4.1, fun g y q => by rw [w4.2.1 g y (by omega), gI_sI, if_neg (by omega)], fun y i q1 q2 q3 q4 => w4.2.2 y i q1 q2 (by omega) (by omega)⟩
end Mx
