/-! THE MODEL READS (8): sequences -/
set_option maxRecDepth 100000
def ElOK (F dd : Nat) (rl : Int32) (τ : Tb) (b : Nat → Nat) (n N j d : Nat) : Prop := ∀ (h : Hp) (a fr m u e t as : Nat) (of : Int32), MSrc h b n → MR h a fr m u e → MT h τ N → t < N → WFt τ j t → e ≤ n → fr + j ≤ 150 →
  ∃ h1, fX6_element F dd 3000 (zI ↑t) of (zI ↑as) h = some h1 ∧ RV F dd rl τ t as of h h1 (a + 1) fr m u e (rd b τ d t none a e m)
theorem sA_id {h : Hp} {y i : Nat} {v : Int32} (q : gA h y i = v) : sA h y i v = h := by
  have : u2 h.2.2.2.1 y i v = h.2.2.2.1 := by
    funext x z
    unfold u2
    split
    · next c => rw [c.1, c.2, ← q]; rfl
    · rfl
  show (h.1, h.2.1, h.2.2.1, u2 h.2.2.2.1 y i v, h.2.2.2.2) = h
  rw [this]
theorem kdT_6 {τ : Tb} {q k : Nat} {x : Int32} (h : tK τ q = 6) : kdT τ q x k = tC τ q k := by unfold kdT; rw [if_pos h]
theorem kdT_7 {τ : Tb} {q k : Nat} {x : Int32} (h : tK τ q = 7) : kdT τ q x k = tC τ q 0 := by unfold kdT; rw [if_neg (by omega), if_pos h]
section Sq
variable {F dd fr n N j : Nat} {b : Nat → Nat} {τ : Tb} {rl : Int32}
/-- steps ahead of a run -/
theorem RV.pre {t as c0 c1 m u e k1 d : Nat} {of : Int32} {h0 h h1 : Hp} {x : Option (Vt d × Nat)} (run : ∀ nf, fX6_isValue_47 F dd (nf + k1) 3000 rl h = fX6_isValue_47 F dd nf 3000 rl h1) (rv : RV F dd rl τ t as of h0 h1 c1 fr m u e x) (c : c0 + k1 ≤ c1) : RV F dd rl τ t as of h0 h c0 fr m u e x := by
  obtain ⟨k, h', r, p⟩ := rv
  refine ⟨k1 + k, h', fun nf => ?_, ?_⟩
  · rw [show nf + (k1 + k) = (nf + k) + k1 by omega, run, r]
  · cases x with
    | none => exact ⟨p.1, by have := p.2; omega⟩
    | some z => obtain ⟨v, a'⟩ := z; exact ⟨p.1, by have := p.2; omega⟩
/-- what a group's frame makes of itself: its base, the bit at the place -/
theorem grp_go {h0 h : Hp} {t as q m0 u0 a e1 e0 d k jt : Nat} {of : Int32} {lo : Bool} {l : List (Nat × Vt d)} (G : GQ b τ n N h0 h t as of q fr m0 u0 a e1 e0 lo l) (ht : t < N) (w : WFt τ jt t) (hj : jt ≤ 12) (hq : bas τ 200 t = q) (k67 : tK τ q = 6 ∨ tK τ q = 7) (hk : gA h 3033 fr = zI ↑k) (hm : m0 < 100) (hF : 1000 ≤ F) :
    ∃ h', UW 0 h h' ∧ q < N ∧ gI h' 623 3000 = zI ↑q ∧ fX6_goOn F dd 3000 h = (if tK τ q = 6 then fX6_goOn_207 F dd F 3000 (zI ↑fr) (zI ↑m0) (zI ↑q) (zI ↑(bitA b a e1)) (zI ↑k) h' else if isE b a e1 lo = true then fX6_goOn_66 F dd 3000 (zI ↑m0) (zI ↑q) h' else fX6_goOn_120 F dd 3000 (zI ↑fr) (zI ↑m0) (zI ↑(0 : Nat)) (zI ↑q) h') := by
  obtain ⟨g1, g2, g3, ⟨g4, g5⟩, g6, g7, g8, g9, g10⟩ := G
  have r7 := g3.2.2.1
  have r10 := g3.2.2.2.2.2
  have hn := g1.2.2.1
  have en := mend_ok (F := F) (d := dd) g1 g3 g7.2 g5
  obtain ⟨h', e1', U, TA, hb, hlt⟩ := unw_ok (F := F) (d := dd) g1.1 g2 ht w hj (by omega)
  rw [hq] at hb hlt
  have hN := g2.1
  have M' := U.mp g1.1
  have T' := U.mt g2
  have R' := g3.uw U
  have S' : MSrc h' b n := (KM.uw (fr := 0) (m := 0) (u := 0) U).ms g1
  obtain ⟨⟨a1, -⟩, -⟩ := T'.2 q hlt
  have bO : fX6_baseOf F dd 3000 (zI ↑m0) h = some (zI ↑q, h') := by
    unfold fX6_baseOf
    simp (disch := omega) only [mp607, mp608, mp609, mp611, mp612, mp613, mp614, mp615, mp616, mp617, mp618, mp619, mp620, mp621, mp622, mp625, mp626, mp631, mp632, mp633, mp636, mp637, mp638, mp639, mp640, mp641, mp642, mp643, mp645, mp646, mp650, mp651, mp652, mp653, mp654, mp655, mp656, mp657, mp658, ln3001, ln3002, ln3003, ln3004, ln3005, ln3006, ln3007, ln3008, ln3009, ln3010, ln3011, ln3012, ln3013, ln3014, ln3015, ln3016, ln3017, ln3018, ln3019, ln3020, ln3021, ln3022, ln3023, ln3024, ln3025, ln3026, ln3027, ln3028, ln3029, ln3030, ln3031, ln3032, ln3033, ln3034, ln3035, ln3036, ln3037, ln3038, ln3039, ck_t, nn_s, bn_d, ca_s, cv_s, oc_n, oc_s, cx_i, cx_r, cy_i, cy_r, gI_sI, gI_sP, gI_sA, gI_sR, gI_sJ, gI_nw, gI_nx, gP_sI, gP_sP, gP_sA, gP_sR, gP_sJ, gP_nw, gP_nx, gA_sI, gA_sP, gA_sA, gA_sR, gA_sJ, gA_nw, gA_nx, gR_sI, gR_sP, gR_sA, gR_sR, gR_sJ, gR_nw, gR_nx, reduceCtorEq, Nat.reduceEqDiff, or_self, or_true, true_or, or_false, false_or, eq_self, and_self, and_true, true_and, and_false, false_and, if_true, if_false, ↓reduceIte, ne_eq, not_true_eq_false, not_false_eq_true, zl0, zl1, zl2, zl3, zl4, zl5, zl6, zl7, zl8, zl9, zl10, zl12, zl15, zl16, zl20, zl31, zl32, zl48, zl97, zl99, zl100, zl120, zl127, zl128, zl129, zl130, zl137, zl150, zl160, zl169, zl254, zl255, zl256, zl4000, zl65535, zl65536, if_pos, if_neg, zn_inb, zn_cl, zn_eq, zn_lt, zn_le, zn_add, zn_sub, zn_mul, zn_addn, zn_eqn, zn_neq, zn_nlt, zn_nle, zn_ckb, isB_b2i, b2z0, b2z1, b2it, b2if, g1.1.2, g8.1, e1', hb]
  have hk' : gA h' 3033 fr = zI ↑k := by rw [U.2.2.2.2.1 _ _ (by omega) (by omega)]; exact hk
  refine ⟨h', U, hlt, hb, ?_⟩
  have E30 : fX6_goOn F dd 3000 h = fX6_goOn_44 F dd 3000 (zI ↑fr) (zI ↑m0) (b2i (isE b a e1 lo)) (zI ↑q) h' := by
    unfold fX6_goOn fX6_goOn_25 fX6_goOn_30
    cases hi : isE b a e1 lo with
    | true =>
      rw [hi] at en
      simp (disch := omega) only [mp607, mp608, mp609, mp611, mp612, mp613, mp614, mp615, mp616, mp617, mp618, mp619, mp620, mp621, mp622, mp625, mp626, mp631, mp632, mp633, mp636, mp637, mp638, mp639, mp640, mp641, mp642, mp643, mp645, mp646, mp650, mp651, mp652, mp653, mp654, mp655, mp656, mp657, mp658, ln3001, ln3002, ln3003, ln3004, ln3005, ln3006, ln3007, ln3008, ln3009, ln3010, ln3011, ln3012, ln3013, ln3014, ln3015, ln3016, ln3017, ln3018, ln3019, ln3020, ln3021, ln3022, ln3023, ln3024, ln3025, ln3026, ln3027, ln3028, ln3029, ln3030, ln3031, ln3032, ln3033, ln3034, ln3035, ln3036, ln3037, ln3038, ln3039, ck_t, nn_s, bn_d, ca_s, cv_s, oc_n, oc_s, cx_i, cx_r, cy_i, cy_r, gI_sI, gI_sP, gI_sA, gI_sR, gI_sJ, gI_nw, gI_nx, gP_sI, gP_sP, gP_sA, gP_sR, gP_sJ, gP_nw, gP_nx, gA_sI, gA_sP, gA_sA, gA_sR, gA_sJ, gA_nw, gA_nx, gR_sI, gR_sP, gR_sA, gR_sR, gR_sJ, gR_nw, gR_nx, reduceCtorEq, Nat.reduceEqDiff, or_self, or_true, true_or, or_false, false_or, eq_self, and_self, and_true, true_and, and_false, false_and, if_true, if_false, ↓reduceIte, ne_eq, not_true_eq_false, not_false_eq_true, zl0, zl1, zl2, zl3, zl4, zl5, zl6, zl7, zl8, zl9, zl10, zl12, zl15, zl16, zl20, zl31, zl32, zl48, zl97, zl99, zl100, zl120, zl127, zl128, zl129, zl130, zl137, zl150, zl160, zl169, zl254, zl255, zl256, zl4000, zl65535, zl65536, if_pos, if_neg, zn_inb, zn_cl, zn_eq, zn_lt, zn_le, zn_add, zn_sub, zn_mul, zn_addn, zn_eqn, zn_neq, zn_nlt, zn_nle, zn_ckb, isB_b2i, b2z0, b2z1, b2it, b2if, g1.1.2, g3.1.2.1, Nat.add_sub_cancel, g4, en, bO]
    | false =>
      rw [hi] at en
      simp (disch := omega) only [mp607, mp608, mp609, mp611, mp612, mp613, mp614, mp615, mp616, mp617, mp618, mp619, mp620, mp621, mp622, mp625, mp626, mp631, mp632, mp633, mp636, mp637, mp638, mp639, mp640, mp641, mp642, mp643, mp645, mp646, mp650, mp651, mp652, mp653, mp654, mp655, mp656, mp657, mp658, ln3001, ln3002, ln3003, ln3004, ln3005, ln3006, ln3007, ln3008, ln3009, ln3010, ln3011, ln3012, ln3013, ln3014, ln3015, ln3016, ln3017, ln3018, ln3019, ln3020, ln3021, ln3022, ln3023, ln3024, ln3025, ln3026, ln3027, ln3028, ln3029, ln3030, ln3031, ln3032, ln3033, ln3034, ln3035, ln3036, ln3037, ln3038, ln3039, ck_t, nn_s, bn_d, ca_s, cv_s, oc_n, oc_s, cx_i, cx_r, cy_i, cy_r, gI_sI, gI_sP, gI_sA, gI_sR, gI_sJ, gI_nw, gI_nx, gP_sI, gP_sP, gP_sA, gP_sR, gP_sJ, gP_nw, gP_nx, gA_sI, gA_sP, gA_sA, gA_sR, gA_sJ, gA_nw, gA_nx, gR_sI, gR_sP, gR_sA, gR_sR, gR_sJ, gR_nw, gR_nx, reduceCtorEq, Nat.reduceEqDiff, or_self, or_true, true_or, or_false, false_or, eq_self, and_self, and_true, true_and, and_false, false_and, if_true, if_false, ↓reduceIte, ne_eq, not_true_eq_false, not_false_eq_true, zl0, zl1, zl2, zl3, zl4, zl5, zl6, zl7, zl8, zl9, zl10, zl12, zl15, zl16, zl20, zl31, zl32, zl48, zl97, zl99, zl100, zl120, zl127, zl128, zl129, zl130, zl137, zl150, zl160, zl169, zl254, zl255, zl256, zl4000, zl65535, zl65536, if_pos, if_neg, zn_inb, zn_cl, zn_eq, zn_lt, zn_le, zn_add, zn_sub, zn_mul, zn_addn, zn_eqn, zn_neq, zn_nlt, zn_nle, zn_ckb, isB_b2i, b2z0, b2z1, b2it, b2if, g1.1.2, g3.1.2.1, Nat.add_sub_cancel, g4, en, bO]
  rw [E30]
  unfold fX6_goOn_44
  rcases k67 with k6 | k7
  · rw [if_pos k6]
    simp (disch := omega) only [mp607, mp608, mp609, mp611, mp612, mp613, mp614, mp615, mp616, mp617, mp618, mp619, mp620, mp621, mp622, mp625, mp626, mp631, mp632, mp633, mp636, mp637, mp638, mp639, mp640, mp641, mp642, mp643, mp645, mp646, mp650, mp651, mp652, mp653, mp654, mp655, mp656, mp657, mp658, ln3001, ln3002, ln3003, ln3004, ln3005, ln3006, ln3007, ln3008, ln3009, ln3010, ln3011, ln3012, ln3013, ln3014, ln3015, ln3016, ln3017, ln3018, ln3019, ln3020, ln3021, ln3022, ln3023, ln3024, ln3025, ln3026, ln3027, ln3028, ln3029, ln3030, ln3031, ln3032, ln3033, ln3034, ln3035, ln3036, ln3037, ln3038, ln3039, ck_t, nn_s, bn_d, ca_s, cv_s, oc_n, oc_s, cx_i, cx_r, cy_i, cy_r, gI_sI, gI_sP, gI_sA, gI_sR, gI_sJ, gI_nw, gI_nx, gP_sI, gP_sP, gP_sA, gP_sR, gP_sJ, gP_nw, gP_nx, gA_sI, gA_sP, gA_sA, gA_sR, gA_sJ, gA_nw, gA_nx, gR_sI, gR_sP, gR_sA, gR_sR, gR_sJ, gR_nw, gR_nx, reduceCtorEq, Nat.reduceEqDiff, or_self, or_true, true_or, or_false, false_or, eq_self, and_self, and_true, true_and, and_false, false_and, if_true, if_false, ↓reduceIte, ne_eq, not_true_eq_false, not_false_eq_true, zl0, zl1, zl2, zl3, zl4, zl5, zl6, zl7, zl8, zl9, zl10, zl12, zl15, zl16, zl20, zl31, zl32, zl48, zl97, zl99, zl100, zl120, zl127, zl128, zl129, zl130, zl137, zl150, zl160, zl169, zl254, zl255, zl256, zl4000, zl65535, zl65536, if_pos, if_neg, zn_inb, zn_cl, zn_eq, zn_lt, zn_le, zn_add, zn_sub, zn_mul, zn_addn, zn_eqn, zn_neq, zn_nlt, zn_nle, zn_ckb, isB_b2i, b2z0, b2z1, b2it, b2if, M'.2, a1, k6]
    unfold fX6_goOn_120 fX6_goOn_196 fX6_goOn_197
    have bd := bnd_ok (F := F) (d := dd) S' R'
    cases hi : isE b a e1 lo with
    | true =>
      have b0 : bitA b a e1 = 0 := by
        unfold isE at hi
        cases lo with
        | true => rw [if_pos rfl] at hi; exact bitA_0 (of_decide_eq_true hi).2.1
        | false => rw [if_neg (by decide)] at hi; have := of_decide_eq_true hi; unfold bitA; rw [if_neg (by omega)]
      rw [b0]
      simp (disch := omega) only [mp607, mp608, mp609, mp611, mp612, mp613, mp614, mp615, mp616, mp617, mp618, mp619, mp620, mp621, mp622, mp625, mp626, mp631, mp632, mp633, mp636, mp637, mp638, mp639, mp640, mp641, mp642, mp643, mp645, mp646, mp650, mp651, mp652, mp653, mp654, mp655, mp656, mp657, mp658, ln3001, ln3002, ln3003, ln3004, ln3005, ln3006, ln3007, ln3008, ln3009, ln3010, ln3011, ln3012, ln3013, ln3014, ln3015, ln3016, ln3017, ln3018, ln3019, ln3020, ln3021, ln3022, ln3023, ln3024, ln3025, ln3026, ln3027, ln3028, ln3029, ln3030, ln3031, ln3032, ln3033, ln3034, ln3035, ln3036, ln3037, ln3038, ln3039, ck_t, nn_s, bn_d, ca_s, cv_s, oc_n, oc_s, cx_i, cx_r, cy_i, cy_r, gI_sI, gI_sP, gI_sA, gI_sR, gI_sJ, gI_nw, gI_nx, gP_sI, gP_sP, gP_sA, gP_sR, gP_sJ, gP_nw, gP_nx, gA_sI, gA_sP, gA_sA, gA_sR, gA_sJ, gA_nw, gA_nx, gR_sI, gR_sP, gR_sA, gR_sR, gR_sJ, gR_nw, gR_nx, reduceCtorEq, Nat.reduceEqDiff, or_self, or_true, true_or, or_false, false_or, eq_self, and_self, and_true, true_and, and_false, false_and, if_true, if_false, ↓reduceIte, ne_eq, not_true_eq_false, not_false_eq_true, zl0, zl1, zl2, zl3, zl4, zl5, zl6, zl7, zl8, zl9, zl10, zl12, zl15, zl16, zl20, zl31, zl32, zl48, zl97, zl99, zl100, zl120, zl127, zl128, zl129, zl130, zl137, zl150, zl160, zl169, zl254, zl255, zl256, zl4000, zl65535, zl65536, if_pos, if_neg, zn_inb, zn_cl, zn_eq, zn_lt, zn_le, zn_add, zn_sub, zn_mul, zn_addn, zn_eqn, zn_neq, zn_nlt, zn_nle, zn_ckb, isB_b2i, b2z0, b2z1, b2it, b2if, M'.2, a1, k6, hk']
    | false =>
      by_cases c : a < e1
      · obtain ⟨s1, s2⟩ := S'.2.2.2 a (by omega)
        have b0 : bitA b a e1 = bitO (b a) := by unfold bitA; rw [if_pos c]
        rw [b0]
        simp (disch := omega) only [mp607, mp608, mp609, mp611, mp612, mp613, mp614, mp615, mp616, mp617, mp618, mp619, mp620, mp621, mp622, mp625, mp626, mp631, mp632, mp633, mp636, mp637, mp638, mp639, mp640, mp641, mp642, mp643, mp645, mp646, mp650, mp651, mp652, mp653, mp654, mp655, mp656, mp657, mp658, ln3001, ln3002, ln3003, ln3004, ln3005, ln3006, ln3007, ln3008, ln3009, ln3010, ln3011, ln3012, ln3013, ln3014, ln3015, ln3016, ln3017, ln3018, ln3019, ln3020, ln3021, ln3022, ln3023, ln3024, ln3025, ln3026, ln3027, ln3028, ln3029, ln3030, ln3031, ln3032, ln3033, ln3034, ln3035, ln3036, ln3037, ln3038, ln3039, ck_t, nn_s, bn_d, ca_s, cv_s, oc_n, oc_s, cx_i, cx_r, cy_i, cy_r, gI_sI, gI_sP, gI_sA, gI_sR, gI_sJ, gI_nw, gI_nx, gP_sI, gP_sP, gP_sA, gP_sR, gP_sJ, gP_nw, gP_nx, gA_sI, gA_sP, gA_sA, gA_sR, gA_sJ, gA_nw, gA_nx, gR_sI, gR_sP, gR_sA, gR_sR, gR_sJ, gR_nw, gR_nx, reduceCtorEq, Nat.reduceEqDiff, or_self, or_true, true_or, or_false, false_or, eq_self, and_self, and_true, true_and, and_false, false_and, if_true, if_false, ↓reduceIte, ne_eq, not_true_eq_false, not_false_eq_true, zl0, zl1, zl2, zl3, zl4, zl5, zl6, zl7, zl8, zl9, zl10, zl12, zl15, zl16, zl20, zl31, zl32, zl48, zl97, zl99, zl100, zl120, zl127, zl128, zl129, zl130, zl137, zl150, zl160, zl169, zl254, zl255, zl256, zl4000, zl65535, zl65536, if_pos, if_neg, zn_inb, zn_cl, zn_eq, zn_lt, zn_le, zn_add, zn_sub, zn_mul, zn_addn, zn_eqn, zn_neq, zn_nlt, zn_nle, zn_ckb, isB_b2i, b2z0, b2z1, b2it, b2if, M'.2, a1, k6, hk', bd, R'.1.1, s1, mbit_ok s2]
      · have b0 : bitA b a e1 = 0 := by unfold bitA; rw [if_neg c]
        rw [b0]
        simp (disch := omega) only [mp607, mp608, mp609, mp611, mp612, mp613, mp614, mp615, mp616, mp617, mp618, mp619, mp620, mp621, mp622, mp625, mp626, mp631, mp632, mp633, mp636, mp637, mp638, mp639, mp640, mp641, mp642, mp643, mp645, mp646, mp650, mp651, mp652, mp653, mp654, mp655, mp656, mp657, mp658, ln3001, ln3002, ln3003, ln3004, ln3005, ln3006, ln3007, ln3008, ln3009, ln3010, ln3011, ln3012, ln3013, ln3014, ln3015, ln3016, ln3017, ln3018, ln3019, ln3020, ln3021, ln3022, ln3023, ln3024, ln3025, ln3026, ln3027, ln3028, ln3029, ln3030, ln3031, ln3032, ln3033, ln3034, ln3035, ln3036, ln3037, ln3038, ln3039, ck_t, nn_s, bn_d, ca_s, cv_s, oc_n, oc_s, cx_i, cx_r, cy_i, cy_r, gI_sI, gI_sP, gI_sA, gI_sR, gI_sJ, gI_nw, gI_nx, gP_sI, gP_sP, gP_sA, gP_sR, gP_sJ, gP_nw, gP_nx, gA_sI, gA_sP, gA_sA, gA_sR, gA_sJ, gA_nw, gA_nx, gR_sI, gR_sP, gR_sA, gR_sR, gR_sJ, gR_nw, gR_nx, reduceCtorEq, Nat.reduceEqDiff, or_self, or_true, true_or, or_false, false_or, eq_self, and_self, and_true, true_and, and_false, false_and, if_true, if_false, ↓reduceIte, ne_eq, not_true_eq_false, not_false_eq_true, zl0, zl1, zl2, zl3, zl4, zl5, zl6, zl7, zl8, zl9, zl10, zl12, zl15, zl16, zl20, zl31, zl32, zl48, zl97, zl99, zl100, zl120, zl127, zl128, zl129, zl130, zl137, zl150, zl160, zl169, zl254, zl255, zl256, zl4000, zl65535, zl65536, if_pos, if_neg, zn_inb, zn_cl, zn_eq, zn_lt, zn_le, zn_add, zn_sub, zn_mul, zn_addn, zn_eqn, zn_neq, zn_nlt, zn_nle, zn_ckb, isB_b2i, b2z0, b2z1, b2it, b2if, M'.2, a1, k6, hk', bd, R'.1.1]
  · rw [if_neg (show ¬ tK τ q = 6 by omega)]
    cases hi : isE b a e1 lo with
    | true => simp (disch := omega) only [mp607, mp608, mp609, mp611, mp612, mp613, mp614, mp615, mp616, mp617, mp618, mp619, mp620, mp621, mp622, mp625, mp626, mp631, mp632, mp633, mp636, mp637, mp638, mp639, mp640, mp641, mp642, mp643, mp645, mp646, mp650, mp651, mp652, mp653, mp654, mp655, mp656, mp657, mp658, ln3001, ln3002, ln3003, ln3004, ln3005, ln3006, ln3007, ln3008, ln3009, ln3010, ln3011, ln3012, ln3013, ln3014, ln3015, ln3016, ln3017, ln3018, ln3019, ln3020, ln3021, ln3022, ln3023, ln3024, ln3025, ln3026, ln3027, ln3028, ln3029, ln3030, ln3031, ln3032, ln3033, ln3034, ln3035, ln3036, ln3037, ln3038, ln3039, ck_t, nn_s, bn_d, ca_s, cv_s, oc_n, oc_s, cx_i, cx_r, cy_i, cy_r, gI_sI, gI_sP, gI_sA, gI_sR, gI_sJ, gI_nw, gI_nx, gP_sI, gP_sP, gP_sA, gP_sR, gP_sJ, gP_nw, gP_nx, gA_sI, gA_sP, gA_sA, gA_sR, gA_sJ, gA_nw, gA_nx, gR_sI, gR_sP, gR_sA, gR_sR, gR_sJ, gR_nw, gR_nx, reduceCtorEq, Nat.reduceEqDiff, or_self, or_true, true_or, or_false, false_or, eq_self, and_self, and_true, true_and, and_false, false_and, if_true, if_false, ↓reduceIte, ne_eq, not_true_eq_false, not_false_eq_true, zl0, zl1, zl2, zl3, zl4, zl5, zl6, zl7, zl8, zl9, zl10, zl12, zl15, zl16, zl20, zl31, zl32, zl48, zl97, zl99, zl100, zl120, zl127, zl128, zl129, zl130, zl137, zl150, zl160, zl169, zl254, zl255, zl256, zl4000, zl65535, zl65536, if_pos, if_neg, zn_inb, zn_cl, zn_eq, zn_lt, zn_le, zn_add, zn_sub, zn_mul, zn_addn, zn_eqn, zn_neq, zn_nlt, zn_nle, zn_ckb, isB_b2i, b2z0, b2z1, b2it, b2if, M'.2, a1, k7]
    | false => simp (disch := omega) only [mp607, mp608, mp609, mp611, mp612, mp613, mp614, mp615, mp616, mp617, mp618, mp619, mp620, mp621, mp622, mp625, mp626, mp631, mp632, mp633, mp636, mp637, mp638, mp639, mp640, mp641, mp642, mp643, mp645, mp646, mp650, mp651, mp652, mp653, mp654, mp655, mp656, mp657, mp658, ln3001, ln3002, ln3003, ln3004, ln3005, ln3006, ln3007, ln3008, ln3009, ln3010, ln3011, ln3012, ln3013, ln3014, ln3015, ln3016, ln3017, ln3018, ln3019, ln3020, ln3021, ln3022, ln3023, ln3024, ln3025, ln3026, ln3027, ln3028, ln3029, ln3030, ln3031, ln3032, ln3033, ln3034, ln3035, ln3036, ln3037, ln3038, ln3039, ck_t, nn_s, bn_d, ca_s, cv_s, oc_n, oc_s, cx_i, cx_r, cy_i, cy_r, gI_sI, gI_sP, gI_sA, gI_sR, gI_sJ, gI_nw, gI_nx, gP_sI, gP_sP, gP_sA, gP_sR, gP_sJ, gP_nw, gP_nx, gA_sI, gA_sP, gA_sA, gA_sR, gA_sJ, gA_nw, gA_nx, gR_sI, gR_sP, gR_sA, gR_sR, gR_sJ, gR_nw, gR_nx, reduceCtorEq, Nat.reduceEqDiff, or_self, or_true, true_or, or_false, false_or, eq_self, and_self, and_true, true_and, and_false, false_and, if_true, if_false, ↓reduceIte, ne_eq, not_true_eq_false, not_false_eq_true, zl0, zl1, zl2, zl3, zl4, zl5, zl6, zl7, zl8, zl9, zl10, zl12, zl15, zl16, zl20, zl31, zl32, zl48, zl97, zl99, zl100, zl120, zl127, zl128, zl129, zl130, zl137, zl150, zl160, zl169, zl254, zl255, zl256, zl4000, zl65535, zl65536, if_pos, if_neg, zn_inb, zn_cl, zn_eq, zn_lt, zn_le, zn_add, zn_sub, zn_mul, zn_addn, zn_eqn, zn_neq, zn_nlt, zn_nle, zn_ckb, isB_b2i, b2z0, b2z1, b2it, b2if, M'.2, a1, k7]
/-- a step over a bad state -/
theorem lf_b {h : Hp} (M : MP h) (B : Bad h) (h8 : gI h 648 3000 = zI ↑(fr + 1)) (hf : fr < 159) : ∃ h', fX6_leaveFrame F dd 3000 h = some h' ∧ Bad h' := by
  unfold Bad at B
  unfold fX6_leaveFrame fX6_leaveFrame_19 fX6_leaveFrame_43
  simp (disch := omega) only [mp607, mp608, mp609, mp611, mp612, mp613, mp614, mp615, mp616, mp617, mp618, mp619, mp620, mp621, mp622, mp625, mp626, mp631, mp632, mp633, mp636, mp637, mp638, mp639, mp640, mp641, mp642, mp643, mp645, mp646, mp650, mp651, mp652, mp653, mp654, mp655, mp656, mp657, mp658, ln3001, ln3002, ln3003, ln3004, ln3005, ln3006, ln3007, ln3008, ln3009, ln3010, ln3011, ln3012, ln3013, ln3014, ln3015, ln3016, ln3017, ln3018, ln3019, ln3020, ln3021, ln3022, ln3023, ln3024, ln3025, ln3026, ln3027, ln3028, ln3029, ln3030, ln3031, ln3032, ln3033, ln3034, ln3035, ln3036, ln3037, ln3038, ln3039, ck_t, nn_s, bn_d, ca_s, cv_s, oc_n, oc_s, cx_i, cx_r, cy_i, cy_r, gI_sI, gI_sP, gI_sA, gI_sR, gI_sJ, gI_nw, gI_nx, gP_sI, gP_sP, gP_sA, gP_sR, gP_sJ, gP_nw, gP_nx, gA_sI, gA_sP, gA_sA, gA_sR, gA_sJ, gA_nw, gA_nx, gR_sI, gR_sP, gR_sA, gR_sR, gR_sJ, gR_nw, gR_nx, reduceCtorEq, Nat.reduceEqDiff, or_self, or_true, true_or, or_false, false_or, eq_self, and_self, and_true, true_and, and_false, false_and, if_true, if_false, ↓reduceIte, ne_eq, not_true_eq_false, not_false_eq_true, zl0, zl1, zl2, zl3, zl4, zl5, zl6, zl7, zl8, zl9, zl10, zl12, zl15, zl16, zl20, zl31, zl32, zl48, zl97, zl99, zl100, zl120, zl127, zl128, zl129, zl130, zl137, zl150, zl160, zl169, zl254, zl255, zl256, zl4000, zl65535, zl65536, if_pos, if_neg, zn_inb, zn_cl, zn_eq, zn_lt, zn_le, zn_add, zn_sub, zn_mul, zn_addn, zn_eqn, zn_neq, zn_nlt, zn_nle, zn_ckb, isB_b2i, b2z0, b2z1, b2it, b2if, M.2, B, h8, Nat.add_sub_cancel]
  split
  · exact ⟨_, rfl, by unfold Bad; simp (disch := omega) only [mp607, mp608, mp609, mp611, mp612, mp613, mp614, mp615, mp616, mp617, mp618, mp619, mp620, mp621, mp622, mp625, mp626, mp631, mp632, mp633, mp636, mp637, mp638, mp639, mp640, mp641, mp642, mp643, mp645, mp646, mp650, mp651, mp652, mp653, mp654, mp655, mp656, mp657, mp658, ln3001, ln3002, ln3003, ln3004, ln3005, ln3006, ln3007, ln3008, ln3009, ln3010, ln3011, ln3012, ln3013, ln3014, ln3015, ln3016, ln3017, ln3018, ln3019, ln3020, ln3021, ln3022, ln3023, ln3024, ln3025, ln3026, ln3027, ln3028, ln3029, ln3030, ln3031, ln3032, ln3033, ln3034, ln3035, ln3036, ln3037, ln3038, ln3039, ck_t, nn_s, bn_d, ca_s, cv_s, oc_n, oc_s, cx_i, cx_r, cy_i, cy_r, gI_sI, gI_sP, gI_sA, gI_sR, gI_sJ, gI_nw, gI_nx, gP_sI, gP_sP, gP_sA, gP_sR, gP_sJ, gP_nw, gP_nx, gA_sI, gA_sP, gA_sA, gA_sR, gA_sJ, gA_nw, gA_nx, gR_sI, gR_sP, gR_sA, gR_sR, gR_sJ, gR_nw, gR_nx, reduceCtorEq, Nat.reduceEqDiff, or_self, or_true, true_or, or_false, false_or, eq_self, and_self, and_true, true_and, and_false, false_and, if_true, if_false, ↓reduceIte, ne_eq, not_true_eq_false, not_false_eq_true, zl0, zl1, zl2, zl3, zl4, zl5, zl6, zl7, zl8, zl9, zl10, zl12, zl15, zl16, zl20, zl31, zl32, zl48, zl97, zl99, zl100, zl120, zl127, zl128, zl129, zl130, zl137, zl150, zl160, zl169, zl254, zl255, zl256, zl4000, zl65535, zl65536, if_pos, if_neg, zn_inb, zn_cl, zn_eq, zn_lt, zn_le, zn_add, zn_sub, zn_mul, zn_addn, zn_eqn, zn_neq, zn_nlt, zn_nle, zn_ckb, isB_b2i, b2z0, b2z1, b2it, b2if, B]⟩
  · exact ⟨_, rfl, by unfold Bad; simp (disch := omega) only [mp607, mp608, mp609, mp611, mp612, mp613, mp614, mp615, mp616, mp617, mp618, mp619, mp620, mp621, mp622, mp625, mp626, mp631, mp632, mp633, mp636, mp637, mp638, mp639, mp640, mp641, mp642, mp643, mp645, mp646, mp650, mp651, mp652, mp653, mp654, mp655, mp656, mp657, mp658, ln3001, ln3002, ln3003, ln3004, ln3005, ln3006, ln3007, ln3008, ln3009, ln3010, ln3011, ln3012, ln3013, ln3014, ln3015, ln3016, ln3017, ln3018, ln3019, ln3020, ln3021, ln3022, ln3023, ln3024, ln3025, ln3026, ln3027, ln3028, ln3029, ln3030, ln3031, ln3032, ln3033, ln3034, ln3035, ln3036, ln3037, ln3038, ln3039, ck_t, nn_s, bn_d, ca_s, cv_s, oc_n, oc_s, cx_i, cx_r, cy_i, cy_r, gI_sI, gI_sP, gI_sA, gI_sR, gI_sJ, gI_nw, gI_nx, gP_sI, gP_sP, gP_sA, gP_sR, gP_sJ, gP_nw, gP_nx, gA_sI, gA_sP, gA_sA, gA_sR, gA_sJ, gA_nw, gA_nx, gR_sI, gR_sP, gR_sA, gR_sR, gR_sJ, gR_nw, gR_nx, reduceCtorEq, Nat.reduceEqDiff, or_self, or_true, true_or, or_false, false_or, eq_self, and_self, and_true, true_and, and_false, false_and, if_true, if_false, ↓reduceIte, ne_eq, not_true_eq_false, not_false_eq_true, zl0, zl1, zl2, zl3, zl4, zl5, zl6, zl7, zl8, zl9, zl10, zl12, zl15, zl16, zl20, zl31, zl32, zl48, zl97, zl99, zl100, zl120, zl127, zl128, zl129, zl130, zl137, zl150, zl160, zl169, zl254, zl255, zl256, zl4000, zl65535, zl65536, if_pos, if_neg, zn_inb, zn_cl, zn_eq, zn_lt, zn_le, zn_add, zn_sub, zn_mul, zn_addn, zn_eqn, zn_neq, zn_nlt, zn_nle, zn_ckb, isB_b2i, b2z0, b2z1, b2it, b2if, B]⟩
theorem g265_b {h : Hp} {p : Int32} {q k : Nat} (M : MP h) (B : Bad h) (h8 : gI h 648 3000 = zI ↑(fr + 1)) (hf : fr < 159) (hq : q < 160) : ∃ h', fX6_goOn_265 F dd 3000 (zI ↑fr) p (zI ↑q) (zI ↑k) h = some h' ∧ Bad h' := by
  have B0 := B
  unfold Bad at B
  unfold fX6_goOn_265
  simp (disch := omega) only [mp607, mp608, mp609, mp611, mp612, mp613, mp614, mp615, mp616, mp617, mp618, mp619, mp620, mp621, mp622, mp625, mp626, mp631, mp632, mp633, mp636, mp637, mp638, mp639, mp640, mp641, mp642, mp643, mp645, mp646, mp650, mp651, mp652, mp653, mp654, mp655, mp656, mp657, mp658, ln3001, ln3002, ln3003, ln3004, ln3005, ln3006, ln3007, ln3008, ln3009, ln3010, ln3011, ln3012, ln3013, ln3014, ln3015, ln3016, ln3017, ln3018, ln3019, ln3020, ln3021, ln3022, ln3023, ln3024, ln3025, ln3026, ln3027, ln3028, ln3029, ln3030, ln3031, ln3032, ln3033, ln3034, ln3035, ln3036, ln3037, ln3038, ln3039, ck_t, nn_s, bn_d, ca_s, cv_s, oc_n, oc_s, cx_i, cx_r, cy_i, cy_r, gI_sI, gI_sP, gI_sA, gI_sR, gI_sJ, gI_nw, gI_nx, gP_sI, gP_sP, gP_sA, gP_sR, gP_sJ, gP_nw, gP_nx, gA_sI, gA_sP, gA_sA, gA_sR, gA_sJ, gA_nw, gA_nx, gR_sI, gR_sP, gR_sA, gR_sR, gR_sJ, gR_nw, gR_nx, reduceCtorEq, Nat.reduceEqDiff, or_self, or_true, true_or, or_false, false_or, eq_self, and_self, and_true, true_and, and_false, false_and, if_true, if_false, ↓reduceIte, ne_eq, not_true_eq_false, not_false_eq_true, zl0, zl1, zl2, zl3, zl4, zl5, zl6, zl7, zl8, zl9, zl10, zl12, zl15, zl16, zl20, zl31, zl32, zl48, zl97, zl99, zl100, zl120, zl127, zl128, zl129, zl130, zl137, zl150, zl160, zl169, zl254, zl255, zl256, zl4000, zl65535, zl65536, if_pos, if_neg, zn_inb, zn_cl, zn_eq, zn_lt, zn_le, zn_add, zn_sub, zn_mul, zn_addn, zn_eqn, zn_neq, zn_nlt, zn_nle, zn_ckb, isB_b2i, b2z0, b2z1, b2it, b2if, M.2, B]
  split
  · obtain ⟨h', e1, B1⟩ := lf_b (F := F) (dd := dd) (h := sA h 3033 fr (zI ↑(k + 1))) M B0 h8 hf
    rw [e1, cv_s]
    exact ⟨h', rfl, B1⟩
  · exact ⟨_, rfl, B0⟩
theorem g207_b {h : Hp} {p x5 : Int32} {q k nf : Nat} (M : MP h) (B : Bad h) (h8 : gI h 648 3000 = zI ↑(fr + 1)) (hf : fr < 159) (hq : q < 160) (hn : 0 < nf) : ∃ h', fX6_goOn_207 F dd nf 3000 (zI ↑fr) p (zI ↑q) x5 (zI ↑k) h = some h' ∧ Bad h' := by
  obtain ⟨f, rfl⟩ : ∃ f, nf = f + 1 := ⟨nf - 1, by omega⟩
  have B0 := B
  unfold Bad at B
  rw [fX6_goOn_207, B, if_pos z00]
  exact g265_b M B0 h8 hf hq
/-- a component that is not there -/
theorem abs_ok {h0 h : Hp} {t as q m0 u0 a e1 e0 d k : Nat} {of : Int32} {lo : Bool} {l : List (Nat × Vt (d + 1))} (G : GQ b τ n N h0 h t as of q fr m0 u0 a e1 e0 lo l) (hq : q < N) (k6 : tK τ q = 6) (hk : k < tN τ q) (hk6 : tN τ q ≤ 6) (hF2 : tF τ q k ≤ 2) (hm : m0 < 100) (hl : l.length < 1000) :
    ∃ h', fX6_absent F dd 3000 (zI ↑m0) (zI ↑q) (zI ↑k) h = some h' ∧
      ((tF τ q k = 0 ∨ (tF τ q k = 2 ∧ ¬ m0 + 1 + szs l < 100)) → Bad h' ∧ MP h' ∧ gI h' 648 3000 = zI ↑(fr + 1)) ∧
      (tF τ q k = 2 → m0 + 1 + szs l < 100 → GQ b τ n N h0 h' t as of q fr m0 u0 a e1 e0 lo (l ++ [(k, dfl τ (d + 1) (tC τ q k) (tD τ q k))])) ∧ (tF τ q k = 1 → h' = h) := by
  have G0 := G
  obtain ⟨g1, g2, g3, ⟨g4, g5⟩, g6, g7, g8, g9, g10⟩ := G
  have hN := g2.1
  obtain ⟨-, -, -, -, a9⟩ := g2.2 q hq
  obtain ⟨c1, c2, c3, c4⟩ := a9 k hk
  by_cases f0 : tF τ q k = 0
  · have E : fX6_absent F dd 3000 (zI ↑m0) (zI ↑q) (zI ↑k) h = some (sI h 649 3000 (zI ↑(0 : Nat))) := by
      unfold fX6_absent fX6_absent_23
      simp (disch := omega) only [mp607, mp608, mp609, mp611, mp612, mp613, mp614, mp615, mp616, mp617, mp618, mp619, mp620, mp621, mp622, mp625, mp626, mp631, mp632, mp633, mp636, mp637, mp638, mp639, mp640, mp641, mp642, mp643, mp645, mp646, mp650, mp651, mp652, mp653, mp654, mp655, mp656, mp657, mp658, ln3001, ln3002, ln3003, ln3004, ln3005, ln3006, ln3007, ln3008, ln3009, ln3010, ln3011, ln3012, ln3013, ln3014, ln3015, ln3016, ln3017, ln3018, ln3019, ln3020, ln3021, ln3022, ln3023, ln3024, ln3025, ln3026, ln3027, ln3028, ln3029, ln3030, ln3031, ln3032, ln3033, ln3034, ln3035, ln3036, ln3037, ln3038, ln3039, ck_t, nn_s, bn_d, ca_s, cv_s, oc_n, oc_s, cx_i, cx_r, cy_i, cy_r, gI_sI, gI_sP, gI_sA, gI_sR, gI_sJ, gI_nw, gI_nx, gP_sI, gP_sP, gP_sA, gP_sR, gP_sJ, gP_nw, gP_nx, gA_sI, gA_sP, gA_sA, gA_sR, gA_sJ, gA_nw, gA_nx, gR_sI, gR_sP, gR_sA, gR_sR, gR_sJ, gR_nw, gR_nx, reduceCtorEq, Nat.reduceEqDiff, or_self, or_true, true_or, or_false, false_or, eq_self, and_self, and_true, true_and, and_false, false_and, if_true, if_false, ↓reduceIte, ne_eq, not_true_eq_false, not_false_eq_true, zl0, zl1, zl2, zl3, zl4, zl5, zl6, zl7, zl8, zl9, zl10, zl12, zl15, zl16, zl20, zl31, zl32, zl48, zl97, zl99, zl100, zl120, zl127, zl128, zl129, zl130, zl137, zl150, zl160, zl169, zl254, zl255, zl256, zl4000, zl65535, zl65536, if_pos, if_neg, zn_inb, zn_cl, zn_eq, zn_lt, zn_le, zn_add, zn_sub, zn_mul, zn_addn, zn_eqn, zn_neq, zn_nlt, zn_nle, zn_ckb, isB_b2i, b2z0, b2z1, b2it, b2if, g1.1.2, c2, f0]
    rw [E]
    refine ⟨_, rfl, fun _ => ?_, fun z => by omega, fun z => by omega⟩
    exact ⟨by unfold Bad; simp (disch := omega) only [mp607, mp608, mp609, mp611, mp612, mp613, mp614, mp615, mp616, mp617, mp618, mp619, mp620, mp621, mp622, mp625, mp626, mp631, mp632, mp633, mp636, mp637, mp638, mp639, mp640, mp641, mp642, mp643, mp645, mp646, mp650, mp651, mp652, mp653, mp654, mp655, mp656, mp657, mp658, ln3001, ln3002, ln3003, ln3004, ln3005, ln3006, ln3007, ln3008, ln3009, ln3010, ln3011, ln3012, ln3013, ln3014, ln3015, ln3016, ln3017, ln3018, ln3019, ln3020, ln3021, ln3022, ln3023, ln3024, ln3025, ln3026, ln3027, ln3028, ln3029, ln3030, ln3031, ln3032, ln3033, ln3034, ln3035, ln3036, ln3037, ln3038, ln3039, ck_t, nn_s, bn_d, ca_s, cv_s, oc_n, oc_s, cx_i, cx_r, cy_i, cy_r, gI_sI, gI_sP, gI_sA, gI_sR, gI_sJ, gI_nw, gI_nx, gP_sI, gP_sP, gP_sA, gP_sR, gP_sJ, gP_nw, gP_nx, gA_sI, gA_sP, gA_sA, gA_sR, gA_sJ, gA_nw, gA_nx, gR_sI, gR_sP, gR_sA, gR_sR, gR_sJ, gR_nw, gR_nx, reduceCtorEq, Nat.reduceEqDiff, or_self, or_true, true_or, or_false, false_or, eq_self, and_self, and_true, true_and, and_false, false_and, if_true, if_false, ↓reduceIte, ne_eq, not_true_eq_false, not_false_eq_true, zl0, zl1, zl2, zl3, zl4, zl5, zl6, zl7, zl8, zl9, zl10, zl12, zl15, zl16, zl20, zl31, zl32, zl48, zl97, zl99, zl100, zl120, zl127, zl128, zl129, zl130, zl137, zl150, zl160, zl169, zl254, zl255, zl256, zl4000, zl65535, zl65536, if_pos, if_neg, zn_inb, zn_cl, zn_eq, zn_lt, zn_le, zn_add, zn_sub, zn_mul, zn_addn, zn_eqn, zn_neq, zn_nlt, zn_nle, zn_ckb, isB_b2i, b2z0, b2z1, b2it, b2if], g1.1, by simp (disch := omega) only [mp607, mp608, mp609, mp611, mp612, mp613, mp614, mp615, mp616, mp617, mp618, mp619, mp620, mp621, mp622, mp625, mp626, mp631, mp632, mp633, mp636, mp637, mp638, mp639, mp640, mp641, mp642, mp643, mp645, mp646, mp650, mp651, mp652, mp653, mp654, mp655, mp656, mp657, mp658, ln3001, ln3002, ln3003, ln3004, ln3005, ln3006, ln3007, ln3008, ln3009, ln3010, ln3011, ln3012, ln3013, ln3014, ln3015, ln3016, ln3017, ln3018, ln3019, ln3020, ln3021, ln3022, ln3023, ln3024, ln3025, ln3026, ln3027, ln3028, ln3029, ln3030, ln3031, ln3032, ln3033, ln3034, ln3035, ln3036, ln3037, ln3038, ln3039, ck_t, nn_s, bn_d, ca_s, cv_s, oc_n, oc_s, cx_i, cx_r, cy_i, cy_r, gI_sI, gI_sP, gI_sA, gI_sR, gI_sJ, gI_nw, gI_nx, gP_sI, gP_sP, gP_sA, gP_sR, gP_sJ, gP_nw, gP_nx, gA_sI, gA_sP, gA_sA, gA_sR, gA_sJ, gA_nw, gA_nx, gR_sI, gR_sP, gR_sA, gR_sR, gR_sJ, gR_nw, gR_nx, reduceCtorEq, Nat.reduceEqDiff, or_self, or_true, true_or, or_false, false_or, eq_self, and_self, and_true, true_and, and_false, false_and, if_true, if_false, ↓reduceIte, ne_eq, not_true_eq_false, not_false_eq_true, zl0, zl1, zl2, zl3, zl4, zl5, zl6, zl7, zl8, zl9, zl10, zl12, zl15, zl16, zl20, zl31, zl32, zl48, zl97, zl99, zl100, zl120, zl127, zl128, zl129, zl130, zl137, zl150, zl160, zl169, zl254, zl255, zl256, zl4000, zl65535, zl65536, if_pos, if_neg, zn_inb, zn_cl, zn_eq, zn_lt, zn_le, zn_add, zn_sub, zn_mul, zn_addn, zn_eqn, zn_neq, zn_nlt, zn_nle, zn_ckb, isB_b2i, b2z0, b2z1, b2it, b2if, g3.1.2.1]⟩
  · by_cases f2 : tF τ q k = 2
    · have c3 := c3 f2
      obtain ⟨s1, s2, s3, K0⟩ := G0.set (gA h 3033 fr) (l.length + 1)
      rw [sA_id (h := h) rfl] at s1 s2 s3 K0
      have p4 := g8.2.2.2.1
      by_cases c : m0 + 1 + szs l < 100
      · obtain ⟨h', e1', R', P', K', -, -, -⟩ := adds_ok (F := F) (d := dd) s1 s3 c (tC τ q k) k (zI ↑m0) (tD τ q k)
        have E : fX6_absent F dd 3000 (zI ↑m0) (zI ↑q) (zI ↑k) h = some h' := by
          unfold fX6_absent fX6_absent_23
          simp (disch := omega) only [mp607, mp608, mp609, mp611, mp612, mp613, mp614, mp615, mp616, mp617, mp618, mp619, mp620, mp621, mp622, mp625, mp626, mp631, mp632, mp633, mp636, mp637, mp638, mp639, mp640, mp641, mp642, mp643, mp645, mp646, mp650, mp651, mp652, mp653, mp654, mp655, mp656, mp657, mp658, ln3001, ln3002, ln3003, ln3004, ln3005, ln3006, ln3007, ln3008, ln3009, ln3010, ln3011, ln3012, ln3013, ln3014, ln3015, ln3016, ln3017, ln3018, ln3019, ln3020, ln3021, ln3022, ln3023, ln3024, ln3025, ln3026, ln3027, ln3028, ln3029, ln3030, ln3031, ln3032, ln3033, ln3034, ln3035, ln3036, ln3037, ln3038, ln3039, ck_t, nn_s, bn_d, ca_s, cv_s, oc_n, oc_s, cx_i, cx_r, cy_i, cy_r, gI_sI, gI_sP, gI_sA, gI_sR, gI_sJ, gI_nw, gI_nx, gP_sI, gP_sP, gP_sA, gP_sR, gP_sJ, gP_nw, gP_nx, gA_sI, gA_sP, gA_sA, gA_sR, gA_sJ, gA_nw, gA_nx, gR_sI, gR_sP, gR_sA, gR_sR, gR_sJ, gR_nw, gR_nx, reduceCtorEq, Nat.reduceEqDiff, or_self, or_true, true_or, or_false, false_or, eq_self, and_self, and_true, true_and, and_false, false_and, if_true, if_false, ↓reduceIte, ne_eq, not_true_eq_false, not_false_eq_true, zl0, zl1, zl2, zl3, zl4, zl5, zl6, zl7, zl8, zl9, zl10, zl12, zl15, zl16, zl20, zl31, zl32, zl48, zl97, zl99, zl100, zl120, zl127, zl128, zl129, zl130, zl137, zl150, zl160, zl169, zl254, zl255, zl256, zl4000, zl65535, zl65536, if_pos, if_neg, zn_inb, zn_cl, zn_eq, zn_lt, zn_le, zn_add, zn_sub, zn_mul, zn_addn, zn_eqn, zn_neq, zn_nlt, zn_nle, zn_ckb, isB_b2i, b2z0, b2z1, b2it, b2if, g1.1.2, c1, c2, c3, f2, p4, e1']
        rw [E]
        refine ⟨h', rfl, fun z => by omega, fun _ _ => ?_, fun z => by omega⟩
        have K2 : KM (fr + 1) (m0 + 1 + szs l) (u0 + ozs l) (sA (sA h 3033 fr (gA h 3033 fr)) 3022 m0 (zI ↑(l.length + 1))) h' := by
          rw [sA_id (h := h) rfl]; exact K'
        have R2 : MR h' a (fr + 1) (m0 + 1 + szs l + sz (d + 1) (dfl τ (d + 1) (tC τ q k) (tD τ q k))) (u0 + ozs l + oz (d + 1) (dfl τ (d + 1) (tC τ q k) (tD τ q k))) e1 := R'
        have P2 : PV h' τ (d + 1) (dfl τ (d + 1) (tC τ q k) (tD τ q k)) (m0 + 1 + szs l) (u0 + ozs l) (zI ↑m0) k (kdT τ q 0 k) := by
          rw [kdT_6 k6]
          exact ⟨P', fun i x hx => (by cases hx), trivial⟩
        exact (G0.kid K2 R2 P2).1
      · have e1' := adds_no (F := F) (d := dd) s1 s3 g7.2 c (zI ↑(tC τ q k)) (zI ↑k) (zI ↑m0) (tD τ q k)
        have E : fX6_absent F dd 3000 (zI ↑m0) (zI ↑q) (zI ↑k) h = some (sI (sA h 3022 m0 (zI ↑(l.length + 1))) 649 3000 (zI ↑(0 : Nat))) := by
          unfold fX6_absent fX6_absent_23
          simp (disch := omega) only [mp607, mp608, mp609, mp611, mp612, mp613, mp614, mp615, mp616, mp617, mp618, mp619, mp620, mp621, mp622, mp625, mp626, mp631, mp632, mp633, mp636, mp637, mp638, mp639, mp640, mp641, mp642, mp643, mp645, mp646, mp650, mp651, mp652, mp653, mp654, mp655, mp656, mp657, mp658, ln3001, ln3002, ln3003, ln3004, ln3005, ln3006, ln3007, ln3008, ln3009, ln3010, ln3011, ln3012, ln3013, ln3014, ln3015, ln3016, ln3017, ln3018, ln3019, ln3020, ln3021, ln3022, ln3023, ln3024, ln3025, ln3026, ln3027, ln3028, ln3029, ln3030, ln3031, ln3032, ln3033, ln3034, ln3035, ln3036, ln3037, ln3038, ln3039, ck_t, nn_s, bn_d, ca_s, cv_s, oc_n, oc_s, cx_i, cx_r, cy_i, cy_r, gI_sI, gI_sP, gI_sA, gI_sR, gI_sJ, gI_nw, gI_nx, gP_sI, gP_sP, gP_sA, gP_sR, gP_sJ, gP_nw, gP_nx, gA_sI, gA_sP, gA_sA, gA_sR, gA_sJ, gA_nw, gA_nx, gR_sI, gR_sP, gR_sA, gR_sR, gR_sJ, gR_nw, gR_nx, reduceCtorEq, Nat.reduceEqDiff, or_self, or_true, true_or, or_false, false_or, eq_self, and_self, and_true, true_and, and_false, false_and, if_true, if_false, ↓reduceIte, ne_eq, not_true_eq_false, not_false_eq_true, zl0, zl1, zl2, zl3, zl4, zl5, zl6, zl7, zl8, zl9, zl10, zl12, zl15, zl16, zl20, zl31, zl32, zl48, zl97, zl99, zl100, zl120, zl127, zl128, zl129, zl130, zl137, zl150, zl160, zl169, zl254, zl255, zl256, zl4000, zl65535, zl65536, if_pos, if_neg, zn_inb, zn_cl, zn_eq, zn_lt, zn_le, zn_add, zn_sub, zn_mul, zn_addn, zn_eqn, zn_neq, zn_nlt, zn_nle, zn_ckb, isB_b2i, b2z0, b2z1, b2it, b2if, g1.1.2, c1, c2, c3, f2, p4, e1']
        rw [E]
        refine ⟨_, rfl, fun _ => ?_, fun _ z => by omega, fun z => by omega⟩
        exact ⟨by unfold Bad; simp (disch := omega) only [mp607, mp608, mp609, mp611, mp612, mp613, mp614, mp615, mp616, mp617, mp618, mp619, mp620, mp621, mp622, mp625, mp626, mp631, mp632, mp633, mp636, mp637, mp638, mp639, mp640, mp641, mp642, mp643, mp645, mp646, mp650, mp651, mp652, mp653, mp654, mp655, mp656, mp657, mp658, ln3001, ln3002, ln3003, ln3004, ln3005, ln3006, ln3007, ln3008, ln3009, ln3010, ln3011, ln3012, ln3013, ln3014, ln3015, ln3016, ln3017, ln3018, ln3019, ln3020, ln3021, ln3022, ln3023, ln3024, ln3025, ln3026, ln3027, ln3028, ln3029, ln3030, ln3031, ln3032, ln3033, ln3034, ln3035, ln3036, ln3037, ln3038, ln3039, ck_t, nn_s, bn_d, ca_s, cv_s, oc_n, oc_s, cx_i, cx_r, cy_i, cy_r, gI_sI, gI_sP, gI_sA, gI_sR, gI_sJ, gI_nw, gI_nx, gP_sI, gP_sP, gP_sA, gP_sR, gP_sJ, gP_nw, gP_nx, gA_sI, gA_sP, gA_sA, gA_sR, gA_sJ, gA_nw, gA_nx, gR_sI, gR_sP, gR_sA, gR_sR, gR_sJ, gR_nw, gR_nx, reduceCtorEq, Nat.reduceEqDiff, or_self, or_true, true_or, or_false, false_or, eq_self, and_self, and_true, true_and, and_false, false_and, if_true, if_false, ↓reduceIte, ne_eq, not_true_eq_false, not_false_eq_true, zl0, zl1, zl2, zl3, zl4, zl5, zl6, zl7, zl8, zl9, zl10, zl12, zl15, zl16, zl20, zl31, zl32, zl48, zl97, zl99, zl100, zl120, zl127, zl128, zl129, zl130, zl137, zl150, zl160, zl169, zl254, zl255, zl256, zl4000, zl65535, zl65536, if_pos, if_neg, zn_inb, zn_cl, zn_eq, zn_lt, zn_le, zn_add, zn_sub, zn_mul, zn_addn, zn_eqn, zn_neq, zn_nlt, zn_nle, zn_ckb, isB_b2i, b2z0, b2z1, b2it, b2if], g1.1, by simp (disch := omega) only [mp607, mp608, mp609, mp611, mp612, mp613, mp614, mp615, mp616, mp617, mp618, mp619, mp620, mp621, mp622, mp625, mp626, mp631, mp632, mp633, mp636, mp637, mp638, mp639, mp640, mp641, mp642, mp643, mp645, mp646, mp650, mp651, mp652, mp653, mp654, mp655, mp656, mp657, mp658, ln3001, ln3002, ln3003, ln3004, ln3005, ln3006, ln3007, ln3008, ln3009, ln3010, ln3011, ln3012, ln3013, ln3014, ln3015, ln3016, ln3017, ln3018, ln3019, ln3020, ln3021, ln3022, ln3023, ln3024, ln3025, ln3026, ln3027, ln3028, ln3029, ln3030, ln3031, ln3032, ln3033, ln3034, ln3035, ln3036, ln3037, ln3038, ln3039, ck_t, nn_s, bn_d, ca_s, cv_s, oc_n, oc_s, cx_i, cx_r, cy_i, cy_r, gI_sI, gI_sP, gI_sA, gI_sR, gI_sJ, gI_nw, gI_nx, gP_sI, gP_sP, gP_sA, gP_sR, gP_sJ, gP_nw, gP_nx, gA_sI, gA_sP, gA_sA, gA_sR, gA_sJ, gA_nw, gA_nx, gR_sI, gR_sP, gR_sA, gR_sR, gR_sJ, gR_nw, gR_nx, reduceCtorEq, Nat.reduceEqDiff, or_self, or_true, true_or, or_false, false_or, eq_self, and_self, and_true, true_and, and_false, false_and, if_true, if_false, ↓reduceIte, ne_eq, not_true_eq_false, not_false_eq_true, zl0, zl1, zl2, zl3, zl4, zl5, zl6, zl7, zl8, zl9, zl10, zl12, zl15, zl16, zl20, zl31, zl32, zl48, zl97, zl99, zl100, zl120, zl127, zl128, zl129, zl130, zl137, zl150, zl160, zl169, zl254, zl255, zl256, zl4000, zl65535, zl65536, if_pos, if_neg, zn_inb, zn_cl, zn_eq, zn_lt, zn_le, zn_add, zn_sub, zn_mul, zn_addn, zn_eqn, zn_neq, zn_nlt, zn_nle, zn_ckb, isB_b2i, b2z0, b2z1, b2it, b2if, g3.1.2.1]⟩
    · have f1 : tF τ q k = 1 := by omega
      have E : fX6_absent F dd 3000 (zI ↑m0) (zI ↑q) (zI ↑k) h = some h := by
        unfold fX6_absent fX6_absent_23
        simp (disch := omega) only [mp607, mp608, mp609, mp611, mp612, mp613, mp614, mp615, mp616, mp617, mp618, mp619, mp620, mp621, mp622, mp625, mp626, mp631, mp632, mp633, mp636, mp637, mp638, mp639, mp640, mp641, mp642, mp643, mp645, mp646, mp650, mp651, mp652, mp653, mp654, mp655, mp656, mp657, mp658, ln3001, ln3002, ln3003, ln3004, ln3005, ln3006, ln3007, ln3008, ln3009, ln3010, ln3011, ln3012, ln3013, ln3014, ln3015, ln3016, ln3017, ln3018, ln3019, ln3020, ln3021, ln3022, ln3023, ln3024, ln3025, ln3026, ln3027, ln3028, ln3029, ln3030, ln3031, ln3032, ln3033, ln3034, ln3035, ln3036, ln3037, ln3038, ln3039, ck_t, nn_s, bn_d, ca_s, cv_s, oc_n, oc_s, cx_i, cx_r, cy_i, cy_r, gI_sI, gI_sP, gI_sA, gI_sR, gI_sJ, gI_nw, gI_nx, gP_sI, gP_sP, gP_sA, gP_sR, gP_sJ, gP_nw, gP_nx, gA_sI, gA_sP, gA_sA, gA_sR, gA_sJ, gA_nw, gA_nx, gR_sI, gR_sP, gR_sA, gR_sR, gR_sJ, gR_nw, gR_nx, reduceCtorEq, Nat.reduceEqDiff, or_self, or_true, true_or, or_false, false_or, eq_self, and_self, and_true, true_and, and_false, false_and, if_true, if_false, ↓reduceIte, ne_eq, not_true_eq_false, not_false_eq_true, zl0, zl1, zl2, zl3, zl4, zl5, zl6, zl7, zl8, zl9, zl10, zl12, zl15, zl16, zl20, zl31, zl32, zl48, zl97, zl99, zl100, zl120, zl127, zl128, zl129, zl130, zl137, zl150, zl160, zl169, zl254, zl255, zl256, zl4000, zl65535, zl65536, if_pos, if_neg, zn_inb, zn_cl, zn_eq, zn_lt, zn_le, zn_add, zn_sub, zn_mul, zn_addn, zn_eqn, zn_neq, zn_nlt, zn_nle, zn_ckb, isB_b2i, b2z0, b2z1, b2it, b2if, g1.1.2, c2, f1]
      rw [E]
      exact ⟨h, rfl, fun z => by omega, fun z => by omega, fun _ => rfl⟩
/-- components from the k-th on -/
theorem sq207 {h0 : Hp} {t as q m0 u0 e1 e0 d jt jb : Nat} {of : Int32} {lo : Bool} (EO : ElOK F dd rl τ b n N jb (d + 1)) (hr : ¬ 2 ≤ rl) (ht : t < N) (w : WFt τ jt t) (hj : jt ≤ 12) (hq : bas τ 200 t = q) (wq : WFt τ (jb + 1) q) (k6 : tK τ q = 6) (hqN : q < N) (hm : m0 < 100) (hfr : fr + 1 + jb ≤ 150) (hF : 1000 ≤ F) :
    ∀ (r k nf : Nat) (h : Hp) (a : Nat) (l : List (Nat × Vt (d + 1))), GQ b τ n N h0 h t as of q fr m0 u0 a e1 e0 lo l → l.length ≤ k → k + r = tN τ q → r < nf →
    ∃ h1, fX6_goOn_207 F dd nf 3000 (zI ↑fr) (zI ↑m0) (zI ↑q) (zI ↑(bitA b a e1)) (zI ↑k) h = some h1 ∧ RV F dd rl τ t as of h0 h1 a fr m0 u0 e0 (fnG b (fun _ => true) q e1 lo l (rdS b τ (fun t a e m => rd b τ (d + 1) t none a e m) (dfl τ (d + 1)) q e1 r k a (m0 + 1 + szs l))) := by
  have w6 := wq.seq k6
  intro r
  induction r with
  | zero =>
    intro k nf h a l G hl hk hn
    obtain ⟨f, rfl⟩ : ∃ f, nf = f + 1 := ⟨nf - 1, by omega⟩
    have G0 := G
    obtain ⟨g1, g2, g3, ⟨g4, g5⟩, g6, g7, g8, g9, g10⟩ := G
    have hN := g2.1
    obtain ⟨⟨-, a2, -⟩, -⟩ := g2.2 q hqN
    have r10 := g3.2.2.2.2.2
    have K : KM (fr) (m0 + 1 + szs l) (u0 + ozs l) h (sA h 3033 fr (zI ↑(k + 1))) := (KM.rf _ _ _ _).sA (by decide) (fun _ _ => Nat.le_refl _) (fun _ _ => by omega) (fun _ => by omega)
    have R1 : MR (sA h 3033 fr (zI ↑(k + 1))) a (fr + 1) (m0 + 1 + szs l) (u0 + ozs l) e1 := by
      refine ⟨g3.1, ?_, g3.2.2⟩
      have := g3.2.1
      unfold BE at this ⊢
      rw [if_neg (by omega)] at this ⊢
      rw [gA_sA, if_neg (by omega)]; exact this
    obtain ⟨h2, e2, q2⟩ := mlea_ok (F := F) (d := dd) (K.ms g1) R1 g7.2 (l := lo) (by rw [gA_sA, if_neg (by omega)]; exact g5) (g6.km K) g7.1
    have E : fX6_goOn_207 F dd (f + 1) 3000 (zI ↑fr) (zI ↑m0) (zI ↑q) (zI ↑(bitA b a e1)) (zI ↑k) h = some h2 := by
      have hk2 : k = tN τ q := by omega
      subst hk2
      rw [fX6_goOn_207]
      unfold fX6_goOn_265
      simp (disch := omega) only [mp607, mp608, mp609, mp611, mp612, mp613, mp614, mp615, mp616, mp617, mp618, mp619, mp620, mp621, mp622, mp625, mp626, mp631, mp632, mp633, mp636, mp637, mp638, mp639, mp640, mp641, mp642, mp643, mp645, mp646, mp650, mp651, mp652, mp653, mp654, mp655, mp656, mp657, mp658, ln3001, ln3002, ln3003, ln3004, ln3005, ln3006, ln3007, ln3008, ln3009, ln3010, ln3011, ln3012, ln3013, ln3014, ln3015, ln3016, ln3017, ln3018, ln3019, ln3020, ln3021, ln3022, ln3023, ln3024, ln3025, ln3026, ln3027, ln3028, ln3029, ln3030, ln3031, ln3032, ln3033, ln3034, ln3035, ln3036, ln3037, ln3038, ln3039, ck_t, nn_s, bn_d, ca_s, cv_s, oc_n, oc_s, cx_i, cx_r, cy_i, cy_r, gI_sI, gI_sP, gI_sA, gI_sR, gI_sJ, gI_nw, gI_nx, gP_sI, gP_sP, gP_sA, gP_sR, gP_sJ, gP_nw, gP_nx, gA_sI, gA_sP, gA_sA, gA_sR, gA_sJ, gA_nw, gA_nx, gR_sI, gR_sP, gR_sA, gR_sR, gR_sJ, gR_nw, gR_nx, reduceCtorEq, Nat.reduceEqDiff, or_self, or_true, true_or, or_false, false_or, eq_self, and_self, and_true, true_and, and_false, false_and, if_true, if_false, ↓reduceIte, ne_eq, not_true_eq_false, not_false_eq_true, zl0, zl1, zl2, zl3, zl4, zl5, zl6, zl7, zl8, zl9, zl10, zl12, zl15, zl16, zl20, zl31, zl32, zl48, zl97, zl99, zl100, zl120, zl127, zl128, zl129, zl130, zl137, zl150, zl160, zl169, zl254, zl255, zl256, zl4000, zl65535, zl65536, if_pos, if_neg, zn_inb, zn_cl, zn_eq, zn_lt, zn_le, zn_add, zn_sub, zn_mul, zn_addn, zn_eqn, zn_neq, zn_nlt, zn_nle, zn_ckb, isB_b2i, b2z0, b2z1, b2it, b2if, g1.1.2, g3.1.2.2.1, a2, e2]
    rw [E, rdS]
    refine ⟨h2, rfl, ?_⟩
    unfold fnG
    dsimp only
    rw [if_pos rfl]
    simp only [List.length_nil, Nat.add_zero, List.append_nil]
    cases hl2 : lea b a e1 lo with
    | none => rw [hl2] at q2; exact RV.bad q2 (by omega)
    | some a3 =>
      rw [hl2] at q2
      have := (lea_le hl2).1
      have K2 : KM fr (m0 + 1 + szs l) (u0 + ozs l) h h2 := K.tr (Nat.le_refl _) (Nat.le_refl _) (Nat.le_refl _) q2.2
      have sz1 : sz (d + 2) (mkV q (Int32.ofNat l.length) [] l : Vt (d + 2)) = 1 + szs l := rfl
      refine ⟨0, h2, fun _ => rfl, ⟨?_, ⟨?_, fun i x hx => (by cases hx), ?_⟩, g10.tr (Nat.le_refl _) (by omega) (by omega) K2⟩, by omega⟩
      · rw [sz_mk, oz_mk, List.length_nil, Nat.zero_add, ← Nat.add_assoc]; exact q2.1
      · show PtI h2 m0 t of as (Int32.ofNat l.length) u0
        rw [zI_nat]; exact g8.km K2 (by omega)
      · show PVs _ l (m0 + 1) (u0 + 0)
        refine PVs.mono _ _ _ (fun p _ j' u' a1 a2 a3 a4 r => ?_) g9
        have := r.km K2 (by omega) (by omega)
        rw [kdT_6 k6] at this
        show PV h2 τ (d + 1) p.2 j' u' (zI ↑m0) p.1 (kdT τ q (Int32.ofNat l.length) p.1)
        rw [kdT_6 k6]; exact this
  | succ r ih =>
    intro k nf h a l G hl hk hn
    obtain ⟨f, rfl⟩ : ∃ f, nf = f + 1 := ⟨nf - 1, by omega⟩
    have G0 := G
    obtain ⟨g1, g2, g3, ⟨g4, g5⟩, g6, g7, g8, g9, g10⟩ := G
    have hN := g2.1
    obtain ⟨⟨-, a2, -⟩, -, -, -, a9⟩ := g2.2 q hqN
    obtain ⟨c1, c2, c3, c4⟩ := a9 k (by omega)
    obtain ⟨⟨-, -, b3, -⟩, -⟩ := g2.2 (tC τ q k) c4
    obtain ⟨wF, wD, wk⟩ := w6.2 k (by omega)
    have r10 := g3.2.2.2.2.2
    have r7 := g3.2.2.1
    rw [rdS]
    by_cases ct : tS τ (tC τ q k) &&& bitA b a e1 = 0
    · rw [if_neg (show ¬ (tS τ (tC τ q k) &&& bitA b a e1 ≠ 0) from fun y => y ct)]
      obtain ⟨h1, e1', q1, q1b, q1c⟩ := abs_ok (F := F) (dd := dd) G0 hqN k6 (show k < tN τ q by omega) w6.1 wF hm (by omega)
      have E : fX6_goOn_207 F dd (f + 1) 3000 (zI ↑fr) (zI ↑m0) (zI ↑q) (zI ↑(bitA b a e1)) (zI ↑k) h = fX6_goOn_207 F dd f 3000 (zI ↑fr) (zI ↑m0) (zI ↑q) (zI ↑(bitA b a e1)) (zI ↑(k + 1)) h1 := by
        rw [fX6_goOn_207]
        simp (disch := omega) only [mp607, mp608, mp609, mp611, mp612, mp613, mp614, mp615, mp616, mp617, mp618, mp619, mp620, mp621, mp622, mp625, mp626, mp631, mp632, mp633, mp636, mp637, mp638, mp639, mp640, mp641, mp642, mp643, mp645, mp646, mp650, mp651, mp652, mp653, mp654, mp655, mp656, mp657, mp658, ln3001, ln3002, ln3003, ln3004, ln3005, ln3006, ln3007, ln3008, ln3009, ln3010, ln3011, ln3012, ln3013, ln3014, ln3015, ln3016, ln3017, ln3018, ln3019, ln3020, ln3021, ln3022, ln3023, ln3024, ln3025, ln3026, ln3027, ln3028, ln3029, ln3030, ln3031, ln3032, ln3033, ln3034, ln3035, ln3036, ln3037, ln3038, ln3039, ck_t, nn_s, bn_d, ca_s, cv_s, oc_n, oc_s, cx_i, cx_r, cy_i, cy_r, gI_sI, gI_sP, gI_sA, gI_sR, gI_sJ, gI_nw, gI_nx, gP_sI, gP_sP, gP_sA, gP_sR, gP_sJ, gP_nw, gP_nx, gA_sI, gA_sP, gA_sA, gA_sR, gA_sJ, gA_nw, gA_nx, gR_sI, gR_sP, gR_sA, gR_sR, gR_sJ, gR_nw, gR_nx, reduceCtorEq, Nat.reduceEqDiff, or_self, or_true, true_or, or_false, false_or, eq_self, and_self, and_true, true_and, and_false, false_and, if_true, if_false, ↓reduceIte, ne_eq, not_true_eq_false, not_false_eq_true, zl0, zl1, zl2, zl3, zl4, zl5, zl6, zl7, zl8, zl9, zl10, zl12, zl15, zl16, zl20, zl31, zl32, zl48, zl97, zl99, zl100, zl120, zl127, zl128, zl129, zl130, zl137, zl150, zl160, zl169, zl254, zl255, zl256, zl4000, zl65535, zl65536, if_pos, if_neg, zn_inb, zn_cl, zn_eq, zn_lt, zn_le, zn_add, zn_sub, zn_mul, zn_addn, zn_eqn, zn_neq, zn_nlt, zn_nle, zn_ckb, isB_b2i, b2z0, b2z1, b2it, b2if, g1.1.2, g3.1.2.2.1, a2, c1, b3, zI_and, ct, e1']
      rw [E]
      by_cases bc : tF τ q k = 0 ∨ (tF τ q k = 2 ∧ ¬ m0 + 1 + szs l < 100)
      · have q1 := q1 bc
        obtain ⟨h2, e2, B2⟩ := g207_b (F := F) (dd := dd) (p := zI ↑m0) (x5 := zI ↑(bitA b a e1)) (q := q) (k := k + 1) (nf := f) q1.2.1 q1.1 q1.2.2 (by omega) (by omega) (by omega)
        refine ⟨h2, e2, ?_⟩
        have : ∀ y : Option (List (Nat × Vt (d + 1)) × Nat), y = none → RV F dd rl τ t as of h0 h2 a fr m0 u0 e0 (fnG b (fun _ => true) q e1 lo l y) := fun y hy => by rw [hy]; exact RV.bad B2 (by omega)
        apply this
        rcases bc with z | z
        · rw [if_pos z]
        · rw [if_neg (by omega), if_pos z.1, if_neg z.2]
      · rw [if_neg (show ¬ tF τ q k = 0 by omega)]
        by_cases f2 : tF τ q k = 2
        · have q1 := q1b f2 (by omega)
          rw [if_pos f2]
          rw [if_pos (show m0 + 1 + szs l < 100 by omega)]
          obtain ⟨h2, e2, q2⟩ := ih (k + 1) f h1 a (l ++ [(k, dfl τ (d + 1) (tC τ q k) (tD τ q k))]) q1 (by simp; omega) (by omega) (by omega)
          refine ⟨h2, e2, ?_⟩
          have e6 : szs (l ++ [(k, dfl τ (d + 1) (tC τ q k) (tD τ q k))]) = szs l + 1 := by rw [szs_app, szs_cons, szs_nil, (dfl_sz d _ _).1]
          rw [e6, ← Nat.add_assoc, ← fnG_c] at q2
          exact q2
        · rw [if_neg f2]
          rw [q1c (by omega)]
          exact ih (k + 1) f h a l G0 (by omega) (by omega) (by omega)
    · rw [if_pos (show tS τ (tC τ q k) &&& bitA b a e1 ≠ 0 from ct)]
      obtain ⟨s1, s2, s3, K0⟩ := G0.set (zI ↑(k + 1)) (l.length + 1)
      have p4 := g8.2.2.2.1
      obtain ⟨h2, e2, k2, h3, r3, p3⟩ := EO (sA (sA h 3033 fr (zI ↑(k + 1))) 3022 m0 (zI ↑(l.length + 1))) a (fr + 1) (m0 + 1 + szs l) (u0 + ozs l) e1 (tC τ q k) k (zI ↑m0) s1 s3 s2 c4 wk g7.2 (by omega)
      have bl : tS τ (tC τ q k) &&& bitA b a e1 < 2147483648 := by
        have := tS_lt wk
        have := Nat.and_le_left (n := tS τ (tC τ q k)) (m := bitA b a e1)
        omega
      have E : fX6_goOn_207 F dd (f + 1) 3000 (zI ↑fr) (zI ↑m0) (zI ↑q) (zI ↑(bitA b a e1)) (zI ↑k) h = some h2 := by
        rw [fX6_goOn_207]
        unfold fX6_goOn_265
        simp (disch := omega) only [mp607, mp608, mp609, mp611, mp612, mp613, mp614, mp615, mp616, mp617, mp618, mp619, mp620, mp621, mp622, mp625, mp626, mp631, mp632, mp633, mp636, mp637, mp638, mp639, mp640, mp641, mp642, mp643, mp645, mp646, mp650, mp651, mp652, mp653, mp654, mp655, mp656, mp657, mp658, ln3001, ln3002, ln3003, ln3004, ln3005, ln3006, ln3007, ln3008, ln3009, ln3010, ln3011, ln3012, ln3013, ln3014, ln3015, ln3016, ln3017, ln3018, ln3019, ln3020, ln3021, ln3022, ln3023, ln3024, ln3025, ln3026, ln3027, ln3028, ln3029, ln3030, ln3031, ln3032, ln3033, ln3034, ln3035, ln3036, ln3037, ln3038, ln3039, ck_t, nn_s, bn_d, ca_s, cv_s, oc_n, oc_s, cx_i, cx_r, cy_i, cy_r, gI_sI, gI_sP, gI_sA, gI_sR, gI_sJ, gI_nw, gI_nx, gP_sI, gP_sP, gP_sA, gP_sR, gP_sJ, gP_nw, gP_nx, gA_sI, gA_sP, gA_sA, gA_sR, gA_sJ, gA_nw, gA_nx, gR_sI, gR_sP, gR_sA, gR_sR, gR_sJ, gR_nw, gR_nx, reduceCtorEq, Nat.reduceEqDiff, or_self, or_true, true_or, or_false, false_or, eq_self, and_self, and_true, true_and, and_false, false_and, if_true, if_false, ↓reduceIte, ne_eq, not_true_eq_false, not_false_eq_true, zl0, zl1, zl2, zl3, zl4, zl5, zl6, zl7, zl8, zl9, zl10, zl12, zl15, zl16, zl20, zl31, zl32, zl48, zl97, zl99, zl100, zl120, zl127, zl128, zl129, zl130, zl137, zl150, zl160, zl169, zl254, zl255, zl256, zl4000, zl65535, zl65536, if_pos, if_neg, zn_inb, zn_cl, zn_eq, zn_lt, zn_le, zn_add, zn_sub, zn_mul, zn_addn, zn_eqn, zn_neq, zn_nlt, zn_nle, zn_ckb, isB_b2i, b2z0, b2z1, b2it, b2if, g1.1.2, g3.1.2.2.1, a2, c1, b3, zI_and, ct, p4, e2]
      rw [E]
      refine ⟨h2, rfl, ?_⟩
      cases hr1 : rd b τ (d + 1) (tC τ q k) none a e1 (m0 + 1 + szs l) with
      | none =>
        rw [hr1] at p3
        exact ⟨k2, h3, r3, p3.1, by omega⟩
      | some z =>
        obtain ⟨v, a1⟩ := z
        rw [hr1] at p3
        obtain ⟨⟨R3, P3, K3⟩, hk3⟩ := p3
        obtain ⟨G4, nx⟩ := G0.kid (k := k) (v := v) K3 R3 (by rw [kdT_6 k6]; exact P3)
        obtain ⟨h4, U, -, hb4, e4⟩ := grp_go (F := F) (dd := dd) G4 ht w hj hq (Or.inl k6) nx hm hF
        rw [if_pos k6] at e4
        have e6 : szs (l ++ [(k, v)]) = szs l + sz (d + 1) v := by rw [szs_app, szs_cons, szs_nil]; rfl
        have G5 := G4.km (KM.uw U) (G4.2.2.1.uw U)
        obtain ⟨h5, e5, p5⟩ := ih (k + 1) F h4 a1 (l ++ [(k, v)]) G5 (by simp; omega) (by omega) (by omega)
        have RR := G4.2.2.1
        rw [e6, ← Nat.add_assoc, ← fnG_c] at p5
        refine RV.pre (k1 := k2 + 1) (h1 := h5) (c1 := a1) (fun nf => ?_) p5 (by omega)
        rw [show nf + (k2 + 1) = (nf + 1) + k2 by omega, r3, L_go RR hr, e4, e5, cv_s]
end Sq
