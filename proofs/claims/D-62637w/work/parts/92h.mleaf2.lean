/-! THE MODEL READS BITS (7): leaves, whole -/
set_option maxRecDepth 100000
section Lg
variable {F dd n p fr m u N : Nat} {b : Nat → Nat} {τ : Tb}
theorem al8_8 {p n : Nat} (h : p ≤ 8 * n) : p ≤ al8 p ∧ al8 p ≤ 8 * n := by unfold al8; omega
/-- NULL, BOOLEAN -/
theorem w_nb {h : Hp} {t as q d : Nat} {of : Int32} (S : MSrc h b n) (R : MK h n p fr m u) (T : MT h τ N) (hq : q < N) (hb : gI h 623 3000 = zI ↑q) (hqt : bas τ 200 t = q) (k : tK τ q = 5 ∨ tK τ q = 1) :
    ∃ h1, fX6_want_128 F dd 3000 (zI ↑t) of (zI ↑as) h = some h1 ∧ RU F dd τ t as of h h1 (9 * m) n fr m u (up b (8 * n) τ false (d + 1) t p m) := by
  have hn := S.2.2.1
  have hN := T.1
  have r8 := R.2.2.1
  obtain ⟨H1, H2⟩ := w128_in (F := F) (dd := dd) (t := t) (as := as) (of := of) S R
  rw [up, hqt]
  by_cases hm : m < 100
  · obtain ⟨h2, e2, R2, P2, K2, b2⟩ := H1 hm
    rw [hb] at b2
    have S2 := K2.ms S
    obtain ⟨⟨a1, -⟩, -⟩ := (K2.mt T).2 q hq
    rw [if_pos hm, if_neg (by omega), if_neg (by omega), if_neg (by omega), if_neg (by omega)]
    unfold fX6_want_128
    rw [e2, ca_s]
    rcases k with k | k
    · rw [if_pos k]
      rw [bn_d, b2, R2.1.2.2.1, if_neg (by decide)]
      simp only [S2.1.2, mp611, mp637, nn_s, ln3004, ln3022, zn_inb (show q < 160 by omega) (by omega), zn_inb hm (by omega), ck_t, zn_cl (show q < 2147483648 by omega), zn_cl (show m < 2147483648 by omega), a1, k]
      rw [if_pos (by decide)]
      exact ⟨h2, rfl, RU.leaf R2 P2 K2 (by omega)⟩
    · rw [if_neg (by omega), if_pos k]
      unfold tk
      by_cases c : p + 1 ≤ 8 * n
      · rw [if_pos c]
        have eb := bit_in (F := F) (dd := dd) S2 R2.pg (show p < 8 * n by omega)
        rw [bn_d, b2, R2.1.2.2.1, if_neg (by decide)]
        simp only [S2.1.2, mp611, mp637, nn_s, ln3004, ln3022, zn_inb (show q < 160 by omega) (by omega), zn_inb hm (by omega), ck_t, zn_cl (show q < 2147483648 by omega), zn_cl (show m < 2147483648 by omega), a1, k]
        rw [if_neg (by decide), if_pos (by decide), eb, ca_s, bn_d]
        obtain ⟨f1, f2, f3⟩ := pl_fin K2 R2 P2 (PQ.s7 h2 (zI ↑(p + 1))) (p1 := p + 1) ⟨by rw [gI_sI, if_pos ⟨rfl, rfl⟩], by rw [gI_sI, if_neg (by omega)]; exact R2.1.2.2.1⟩ (by omega) c (zI ↑(btA b p))
        refine ⟨_, rfl, ?_⟩
        have e3 : Int32.ofNat (tkv b p 1) = zI ↑(btA b p) := by rw [zI_nat]; congr 2; show 2 * 0 + btA b (p + 0) = btA b p; simp
        show RU F dd τ t as of h _ (9 * m) n fr m u (some ((mkV q (Int32.ofNat (tkv b p 1)) [] [] : Vt (d + 1)), p + 1))
        rw [e3]
        exact RU.leaf f1 f2 f3 (by omega)
      · rw [if_neg c]
        have eb := bit_out (F := F) (dd := dd) S2 R2.pg (show 8 * n ≤ p by omega) (by have := R2.2.2.2.2; omega)
        rw [bn_d, b2, R2.1.2.2.1, if_neg (by decide)]
        simp only [S2.1.2, mp611, mp637, nn_s, ln3004, ln3022, zn_inb (show q < 160 by omega) (by omega), zn_inb hm (by omega), ck_t, zn_cl (show q < 2147483648 by omega), zn_cl (show m < 2147483648 by omega), a1, k]
        rw [if_neg (by decide), if_pos (by decide), eb, ca_s, bn_d]
        refine ⟨_, rfl, RU.bad ?_ (by omega)⟩
        unfold Bad
        simp (disch := omega) only [mp607, mp608, mp609, mp611, mp612, mp613, mp614, mp615, mp616, mp617, mp618, mp619, mp620, mp621, mp622, mp625, mp626, mp631, mp632, mp633, mp636, mp637, mp638, mp639, mp640, mp641, mp642, mp643, mp645, mp646, mp650, mp651, mp652, mp653, mp654, mp655, mp656, mp657, mp658, ln3001, ln3002, ln3003, ln3004, ln3005, ln3006, ln3007, ln3008, ln3009, ln3010, ln3011, ln3012, ln3013, ln3014, ln3015, ln3016, ln3017, ln3018, ln3019, ln3020, ln3021, ln3022, ln3023, ln3024, ln3025, ln3026, ln3027, ln3028, ln3029, ln3030, ln3031, ln3032, ln3033, ln3034, ln3035, ln3036, ln3037, ln3038, ln3039, ck_t, nn_s, bn_d, ca_s, cv_s, oc_n, oc_s, cx_i, cx_r, cy_i, cy_r, gI_sI, gI_sP, gI_sA, gI_sR, gI_sJ, gI_nw, gI_nx, gP_sI, gP_sP, gP_sA, gP_sR, gP_sJ, gP_nw, gP_nx, gA_sI, gA_sP, gA_sA, gA_sR, gA_sJ, gA_nw, gA_nx, gR_sI, gR_sP, gR_sA, gR_sR, gR_sJ, gR_nw, gR_nx, reduceCtorEq, Nat.reduceEqDiff, or_self, or_true, true_or, or_false, false_or, eq_self, and_self, and_true, true_and, and_false, false_and, if_true, if_false, ↓reduceIte, ne_eq, not_true_eq_false, not_false_eq_true, zl0, zl1, zl2, zl3, zl4, zl5, zl6, zl7, zl8, zl9, zl10, zl12, zl15, zl16, zl20, zl31, zl32, zl48, zl97, zl99, zl100, zl120, zl127, zl128, zl129, zl130, zl137, zl150, zl160, zl169, zl254, zl255, zl256, zl4000, zl65535, zl65536, if_pos, if_neg, zn_inb, zn_cl, zn_eq, zn_lt, zn_le, zn_add, zn_sub, zn_mul, zn_addn, zn_eqn, zn_neq, zn_nlt, zn_nle, zn_ckb, isB_b2i, b2z0, b2z1, b2it, b2if]
  · obtain ⟨h2, e2, B2⟩ := H2 hm
    rw [if_neg hm]
    exact ⟨h2, e2, RU.bad B2 (by omega)⟩
/-- INTEGER with bounds -/
theorem w_ib {h : Hp} {t as q d : Nat} {of : Int32} (S : MSrc h b n) (R : MK h n p fr m u) (T : MT h τ N) (hq : q < N) (hb : gI h 623 3000 = zI ↑q) (hqt : bas τ 200 t = q) (k : tK τ q = 2) (ok : okI τ q) (hB : tB τ q = true) (hF : 1000 ≤ F) :
    ∃ h1, fX6_want_128 F dd 3000 (zI ↑t) of (zI ↑as) h = some h1 ∧ RU F dd τ t as of h h1 (9 * m) n fr m u (up b (8 * n) τ false (d + 1) t p m) := by
  have hn := S.2.2.1
  have hN := T.1
  have r8 := R.2.2.1
  obtain ⟨H1, H2⟩ := w128_in (F := F) (dd := dd) (t := t) (as := as) (of := of) S R
  rw [up, hqt]
  by_cases hm : m < 100
  · obtain ⟨h2, e2, R2, P2, K2, b2⟩ := H1 hm
    rw [hb] at b2
    have S2 := K2.ms S
    obtain ⟨⟨a1, -, -, -, a5⟩, -, a7, -⟩ := (K2.mt T).2 q hq
    obtain ⟨a7, a8⟩ := a7 hB
    rw [hB] at a5
    obtain ⟨lo, M, o1, o2, o3, o4, o5⟩ := ok hB
    have hM : tHi τ q - tLo τ q = zI ↑M := by rw [o1, o2, zI_sub]; congr 1; omega
    rw [if_pos hm, if_neg (by omega), if_neg (by omega), if_neg (by omega), if_neg (by omega), if_neg (by omega), if_neg (by omega), if_pos hB]
    obtain ⟨x, h3, e3, q3, r3⟩ := rging_ok (F := F) (dd := dd) hM o5 S2 R2.pg R2.2.2.2.2 hF
    unfold fX6_want_128
    rw [e2, ca_s]
    rw [bn_d, b2, R2.1.2.2.1, if_neg (by decide)]
    simp only [S2.1.2, mp611, mp637, mp618, mp612, mp613, ln3011, ln3005, ln3006, nn_s, ln3004, ln3022, zn_inb (show q < 160 by omega) (by omega), zn_inb hm (by omega), ck_t, zn_cl (show q < 2147483648 by omega), zn_cl (show m < 2147483648 by omega), a1, a5, a7, a8, k]
    rw [if_neg (by decide), if_neg (by decide), if_neg (by decide), if_neg (by decide), if_neg (by decide), if_neg (by decide), e3, ca_s, bn_d]
    refine ⟨_, rfl, ?_⟩
    unfold rngI spn
    rw [hM, zn_cl (by omega)]
    cases hr : rng b (8 * n) M p with
    | none =>
      rw [hr] at r3
      exact RU.bad (show Bad (sA h3 3022 m x) from r3) (by omega)
    | some z =>
      obtain ⟨v, p1⟩ := z
      rw [hr] at r3
      obtain ⟨r4, r5, r6⟩ := r3
      obtain ⟨l1, l2⟩ := rng_le hr
      obtain ⟨f1, f2, f3⟩ := pl_fin K2 R2 P2 q3 r5 l1 l2 x
      show RU F dd τ t as of h _ (9 * m) n fr m u (some ((mkV q (tLo τ q + Int32.ofNat v) [] [] : Vt (d + 1)), p1))
      rw [zI_nat, ← r4]
      exact RU.leaf f1 f2 f3 (by omega)
  · obtain ⟨h2, e2, B2⟩ := H2 hm
    rw [if_neg hm]
    exact ⟨h2, e2, RU.bad B2 (by omega)⟩
/-- INTEGER without -/
theorem w578_b {h : Hp} {x : Int32} (M : MP h) (B : Bad h) (hm : m < 100) : ∃ h1, fX6_want_578 F dd 3000 (zI ↑m) x h = some h1 ∧ Bad h1 := by
  have B0 := B
  unfold Bad at B
  unfold fX6_want_578
  simp (disch := omega) only [mp607, mp608, mp609, mp611, mp612, mp613, mp614, mp615, mp616, mp617, mp618, mp619, mp620, mp621, mp622, mp625, mp626, mp631, mp632, mp633, mp636, mp637, mp638, mp639, mp640, mp641, mp642, mp643, mp645, mp646, mp650, mp651, mp652, mp653, mp654, mp655, mp656, mp657, mp658, ln3001, ln3002, ln3003, ln3004, ln3005, ln3006, ln3007, ln3008, ln3009, ln3010, ln3011, ln3012, ln3013, ln3014, ln3015, ln3016, ln3017, ln3018, ln3019, ln3020, ln3021, ln3022, ln3023, ln3024, ln3025, ln3026, ln3027, ln3028, ln3029, ln3030, ln3031, ln3032, ln3033, ln3034, ln3035, ln3036, ln3037, ln3038, ln3039, ck_t, nn_s, bn_d, ca_s, cv_s, oc_n, oc_s, cx_i, cx_r, cy_i, cy_r, gI_sI, gI_sP, gI_sA, gI_sR, gI_sJ, gI_nw, gI_nx, gP_sI, gP_sP, gP_sA, gP_sR, gP_sJ, gP_nw, gP_nx, gA_sI, gA_sP, gA_sA, gA_sR, gA_sJ, gA_nw, gA_nx, gR_sI, gR_sP, gR_sA, gR_sR, gR_sJ, gR_nw, gR_nx, reduceCtorEq, Nat.reduceEqDiff, or_self, or_true, true_or, or_false, false_or, eq_self, and_self, and_true, true_and, and_false, false_and, if_true, if_false, ↓reduceIte, ne_eq, not_true_eq_false, not_false_eq_true, zl0, zl1, zl2, zl3, zl4, zl5, zl6, zl7, zl8, zl9, zl10, zl12, zl15, zl16, zl20, zl31, zl32, zl48, zl97, zl99, zl100, zl120, zl127, zl128, zl129, zl130, zl137, zl150, zl160, zl169, zl254, zl255, zl256, zl4000, zl65535, zl65536, if_pos, if_neg, zn_inb, zn_cl, zn_eq, zn_lt, zn_le, zn_add, zn_sub, zn_mul, zn_addn, zn_eqn, zn_neq, zn_nlt, zn_nle, zn_ckb, isB_b2i, b2z0, b2z1, b2it, b2if, M.2, B]
  exact ⟨_, rfl, B0⟩
theorem w573_b {h : Hp} {x : Int32} (M : MP h) (hm : m < 100) : ∃ h1, fX6_want_573 F dd 3000 (zI ↑m) x h = some h1 ∧ Bad h1 := by
  unfold fX6_want_573
  rw [bn_d]
  exact w578_b (h := sI h 649 3000 0) M (by unfold Bad; rw [gI_sI, if_pos ⟨rfl, rfl⟩]; rfl) hm
theorem w_iu {h : Hp} {t as q d : Nat} {of : Int32} (S : MSrc h b n) (R : MK h n p fr m u) (T : MT h τ N) (hq : q < N) (hb : gI h 623 3000 = zI ↑q) (hqt : bas τ 200 t = q) (k : tK τ q = 2) (hB : tB τ q = false) (hF : 1000 ≤ F) :
    ∃ h1, fX6_want_128 F dd 3000 (zI ↑t) of (zI ↑as) h = some h1 ∧ RU F dd τ t as of h h1 (9 * m) n fr m u (up b (8 * n) τ false (d + 1) t p m) := by
  have hn := S.2.2.1
  have hN := T.1
  have r8 := R.2.2.1
  obtain ⟨H1, H2⟩ := w128_in (F := F) (dd := dd) (t := t) (as := as) (of := of) S R
  rw [up, hqt]
  by_cases hm : m < 100
  · obtain ⟨h2, e2, R2, P2, K2, b2⟩ := H1 hm
    rw [hb] at b2
    have S2 := K2.ms S
    obtain ⟨⟨a1, -, -, -, a5⟩, -⟩ := (K2.mt T).2 q hq
    rw [hB] at a5
    rw [if_pos hm, if_neg (by omega), if_neg (by omega), if_neg (by omega), if_neg (by omega), if_neg (by omega), if_neg (by omega), if_neg (by rw [hB]; decide)]
    obtain ⟨e3, g3, l3⟩ := malg_ok (F := F) (dd := dd) S2 R2.pg R2.2.2.2.2
    have Q3 : PQ h2 (sI h2 647 3000 (zI ↑(al8 p))) := PQ.s7 h2 _
    obtain ⟨x, h4, e4, q4, r4⟩ := some_ok (F := F) (dd := dd) (k := 8) (by omega) (Q3.ms S2) g3 l3 hF
    have Q4 := Q3.tr q4
    have S4 := Q4.ms S2
    have l0 := (al8_8 R2.2.2.2.2).1
    have E : fX6_want_128 F dd 3000 (zI ↑t) of (zI ↑as) h = (if inR x 1 4 = false then fX6_want_573 F dd 3000 (zI ↑m) x h4 else if gI h4 647 3000 + 8 * x ≤ 8 * gI h4 628 3000 then fX6_want_578 F dd 3000 (zI ↑m) x h4 else fX6_want_573 F dd 3000 (zI ↑m) x h4) := by
      unfold fX6_want_128
      rw [e2, ca_s]
      have e4' : fX6_some F dd 3000 8 (sI h2 647 3000 (zI ↑(al8 p))) = some (x, h4) := e4
      rw [bn_d, b2, R2.1.2.2.1, if_neg (by decide)]
      simp only [S2.1.2, mp611, mp637, mp618, ln3011, nn_s, ln3004, ln3022, zn_inb (show q < 160 by omega) (by omega), zn_inb hm (by omega), ck_t, zn_cl (show q < 2147483648 by omega), zn_cl (show m < 2147483648 by omega), a1, a5, k]
      rw [if_neg (by decide), if_neg (by decide), if_neg (by decide), if_neg (by decide), if_neg (by decide), if_pos (by decide), e3, cv_s, e4', ca_s, mem_ok, ca_s]
      simp only [b2i_0]
    rw [E]
    have badend : (∃ h1, (if inR x 1 4 = false then fX6_want_573 F dd 3000 (zI ↑m) x h4 else if gI h4 647 3000 + 8 * x ≤ 8 * gI h4 628 3000 then fX6_want_578 F dd 3000 (zI ↑m) x h4 else fX6_want_573 F dd 3000 (zI ↑m) x h4) = some h1 ∧ Bad h1) → ∃ h1, (if inR x 1 4 = false then fX6_want_573 F dd 3000 (zI ↑m) x h4 else if gI h4 647 3000 + 8 * x ≤ 8 * gI h4 628 3000 then fX6_want_578 F dd 3000 (zI ↑m) x h4 else fX6_want_573 F dd 3000 (zI ↑m) x h4) = some h1 ∧ RU F dd τ t as of h h1 (9 * m) n fr m u (none : Option (Vt (d + 1) × Nat)) := by
      intro ⟨h1, y1, y2⟩
      exact ⟨h1, y1, RU.bad y2 (by omega)⟩
    unfold tk at r4 ⊢
    by_cases c : al8 p + 8 ≤ 8 * n
    · rw [if_pos c] at r4
      rw [if_pos c]
      obtain ⟨r5, r6⟩ := r4
      have lt := tkv_lt b (al8 p) 8
      dsimp only
      generalize hv : tkv b (al8 p) 8 = v at *
      have iv : inR x 1 4 = decide (1 ≤ v ∧ v ≤ 4) := by rw [r5]; exact inR_out (lo := 1) (hi := 4) (by omega) (by omega) (by omega)
      by_cases c1 : 1 ≤ v ∧ v ≤ 4
      · have cnd : (gI h4 647 3000 + 8 * x ≤ 8 * gI h4 628 3000) ↔ al8 p + 8 + 8 * v ≤ 8 * n := by
          rw [r6.1, S4.2.1, r5, show (8 : Int32) = zI ↑(8 : Nat) from rfl, zn_mul, zn_mul, zn_add, zn_le (by omega) (by omega)]
        by_cases c2 : al8 p + 8 + 8 * v ≤ 8 * n
        · rw [if_neg (by rw [iv, decide_eq_true c1]; decide), if_pos (cnd.mpr c2), if_pos ⟨c1, c2, fun z => by cases z⟩]
          obtain ⟨y, h5, e5, q5, r7⟩ := some_ok (F := F) (dd := dd) (k := 8 * v) (by omega) S4 r6 c hF
          unfold tk at r7
          rw [if_pos c2] at r7
          have e8 : 8 * x = zI ↑(8 * v) := by rw [r5, show (8 : Int32) = zI ↑(8 : Nat) from rfl, zn_mul]
          have E5 : fX6_want_578 F dd 3000 (zI ↑m) x h4 = some (sA h5 3022 m (ivL (octs b (al8 p + 8) v))) := by
            rw [← sx_ok c1.1 c1.2, ← r7.1, ← r5]
            unfold fX6_want_578
            have g9 : ¬ gI h4 649 3000 = 0 := by rw [r6.2]; decide
            rw [S4.1.2, mp637, nn_s, if_neg g9, e8, e5, ca_s, ln3022, zn_inb (by omega) (by omega), ck_t, bn_d, zn_cl (by omega)]
          rw [E5]
          refine ⟨_, rfl, ?_⟩
          obtain ⟨f1, f2, f3⟩ := pl_fin K2 R2 P2 (Q4.tr q5) r7.2 (by omega) c2 (ivL (octs b (al8 p + 8) v))
          exact RU.leaf f1 f2 f3 (by omega)
        · rw [if_neg (show ¬ ((1 ≤ v ∧ v ≤ 4) ∧ al8 p + 8 + 8 * v ≤ 8 * n ∧ (false = true → byO (ivL (octs b (al8 p + 8) v)) = v)) from fun z => c2 z.2.1)]
          apply badend
          rw [if_neg (by rw [iv, decide_eq_true c1]; decide), if_neg (fun z => c2 (cnd.mp z))]
          exact w573_b S4.1 hm
      · rw [if_neg (show ¬ ((1 ≤ v ∧ v ≤ 4) ∧ al8 p + 8 + 8 * v ≤ 8 * n ∧ (false = true → byO (ivL (octs b (al8 p + 8) v)) = v)) from fun z => c1 z.1)]
        apply badend
        rw [if_pos (by rw [iv, decide_eq_false c1])]
        exact w573_b S4.1 hm
    · rw [if_neg c] at r4
      rw [if_neg c]
      apply badend
      split
      · exact w573_b S4.1 hm
      · split
        · exact w578_b S4.1 r4 hm
        · exact w573_b S4.1 hm
  · obtain ⟨h2, e2, B2⟩ := H2 hm
    rw [if_neg hm]
    exact ⟨h2, e2, RU.bad B2 (by omega)⟩
/-- OCTETS -/
theorem w_oc {h : Hp} {t as q d : Nat} {of : Int32} (S : MSrc h b n) (R : MK h n p fr m u) (T : MT h τ N) (hq : q < N) (hb : gI h 623 3000 = zI ↑q) (hqt : bas τ 200 t = q) (k : tK τ q = 4) (ok : okS τ q) (hF : 1000 ≤ F) :
    ∃ h1, fX6_want_128 F dd 3000 (zI ↑t) of (zI ↑as) h = some h1 ∧ RU F dd τ t as of h h1 (9 * m) n fr m u (up b (8 * n) τ false (d + 1) t p m) := by
  have hn := S.2.2.1
  have hN := T.1
  have r8 := R.2.2.1
  obtain ⟨H1, H2⟩ := w128_in (F := F) (dd := dd) (t := t) (as := as) (of := of) S R
  rw [up, hqt]
  by_cases hm : m < 100
  · obtain ⟨h2, e2, R2, P2, K2, b2⟩ := H1 hm
    rw [hb] at b2
    have S2 := K2.ms S
    have T2 := K2.mt T
    obtain ⟨⟨a1, -, -, -, a5⟩, -, a7, -⟩ := T2.2 q hq
    rw [if_pos hm, if_neg (by omega), if_neg (by omega), if_neg (by omega), if_pos k]
    obtain ⟨x, h3, e3, q3, r3⟩ := mcnt_ok (F := F) (dd := dd) S2 T2 hq ok R2.pg R2.2.2.2.2 hF
    have S3 : MSrc (sA h3 3022 m x) b n := ⟨(q3.ms S2).1, (q3.ms S2).2.1, (q3.ms S2).2.2.1, fun i hi => by rw [gA_sA, if_neg (by omega)]; exact (q3.ms S2).2.2.2 i hi⟩
    have g11 : ∀ i, gA (sA h3 3022 m x) 3011 i = gA h2 3011 i := fun i => by rw [gA_sA, if_neg (by omega), q3.1.2.2.2]
    have g05 : ∀ i, gA (sA h3 3022 m x) 3005 i = gA h2 3005 i := fun i => by rw [gA_sA, if_neg (by omega), q3.1.2.2.2]
    have g06 : ∀ i, gA (sA h3 3022 m x) 3006 i = gA h2 3006 i := fun i => by rw [gA_sA, if_neg (by omega), q3.1.2.2.2]
    have g22 : gA (sA h3 3022 m x) 3022 m = x := by rw [gA_sA, if_pos ⟨rfl, rfl⟩]
    have E : fX6_want_128 F dd 3000 (zI ↑t) of (zI ↑as) h = (if tB τ q = true ∧ ¬ x ≤ 0 ∧ sho τ q = false then fX6_want_263 F dd 3000 (zI ↑m) (sA h3 3022 m x) else fX6_want_267 F dd 3000 (zI ↑m) (sA h3 3022 m x)) := by
      have E1 : fX6_want_128 F dd 3000 (zI ↑t) of (zI ↑as) h = (if gA h2 3011 q = 0 then fX6_want_267 F dd 3000 (zI ↑m) (sA h3 3022 m x) else if x ≤ 0 then fX6_want_267 F dd 3000 (zI ↑m) (sA h3 3022 m x) else if gA h2 3005 q = gA h2 3006 q then (if gA h2 3006 q ≤ 2 then fX6_want_267 F dd 3000 (zI ↑m) (sA h3 3022 m x) else fX6_want_263 F dd 3000 (zI ↑m) (sA h3 3022 m x)) else fX6_want_263 F dd 3000 (zI ↑m) (sA h3 3022 m x)) := by
        unfold fX6_want_128
        rw [e2, ca_s]
        rw [bn_d, b2, R2.1.2.2.1, if_neg (by decide)]
        simp only [S2.1.2, mp611, mp637, nn_s, ln3004, ln3022, zn_inb (show q < 160 by omega) (by omega), zn_inb hm (by omega), ck_t, zn_cl (show q < 2147483648 by omega), zn_cl (show m < 2147483648 by omega), a1, k]
        rw [if_neg (by decide), if_neg (by decide), if_pos (by decide), e3, ca_s, bn_d]
        simp only [S3.1.2, mp618, mp637, mp612, mp613, nn_s, ln3011, ln3022, ln3005, ln3006, zn_inb (show q < 160 by omega) (by omega), zn_inb hm (by omega), ck_t, g11, g05, g06, g22]
      rw [E1]
      cases hB : tB τ q with
      | false =>
        rw [hB] at a5
        rw [if_pos (show gA h2 3011 q = 0 from a5), if_neg (show ¬ (false = true ∧ ¬ x ≤ 0 ∧ sho τ q = false) from fun z => by cases z.1)]
      | true =>
        rw [hB] at a5
        obtain ⟨a7, a8⟩ := a7 hB
        rw [if_neg (show ¬ gA h2 3011 q = 0 by rw [a5]; decide), a7, a8]
        by_cases c1 : x ≤ 0
        · rw [if_pos c1, if_neg (show ¬ (true = true ∧ ¬ x ≤ 0 ∧ sho τ q = false) from fun z => z.2.1 c1)]
        · rw [if_neg c1]
          unfold sho
          by_cases c2 : tLo τ q = tHi τ q
          · rw [if_pos c2, decide_eq_true c2]
            by_cases c3 : tHi τ q ≤ 2
            · rw [if_pos c3, decide_eq_true c3, if_neg (by simp)]
            · rw [if_neg c3, decide_eq_false c3, if_pos ⟨rfl, c1, rfl⟩]
          · rw [if_neg c2, decide_eq_false c2, if_pos ⟨rfl, c1, rfl⟩]
    rw [E]
    cases hc : cnt b (8 * n) τ q p with
    | none =>
      rw [hc] at r3
      have B3 : Bad (sA h3 3022 m x) := r3
      have B4 : Bad (sI (sA h3 3022 m x) 647 3000 ((gI (sA h3 3022 m x) 647 3000 + 7) / 8 * 8)) := by unfold Bad; rw [gI_sI, if_neg (by omega)]; exact B3
      split
      · unfold fX6_want_263 fX6_want_267 fX6_align
        rw [bn_d, cv_s]
        obtain ⟨h5, e5, B5⟩ := w270_b (F := F) (dd := dd) (h := sI (sA h3 3022 m x) 647 3000 ((gI (sA h3 3022 m x) 647 3000 + 7) / 8 * 8)) (i := m) (nf := F) S3.1 B4 hm (by omega)
        exact ⟨h5, e5, RU.bad B5 (by omega)⟩
      · unfold fX6_want_267
        obtain ⟨h5, e5, B5⟩ := w270_b (F := F) (dd := dd) (h := sA h3 3022 m x) (i := m) (nf := F) S3.1 B3 hm (by omega)
        exact ⟨h5, e5, RU.bad B5 (by omega)⟩
    | some z =>
      obtain ⟨y, p1⟩ := z
      rw [hc] at r3
      obtain ⟨r4, r5⟩ := r3
      subst r4
      obtain ⟨K, k1, k2, -⟩ := cnt_rg ok hc
      obtain ⟨l1, l2⟩ := cnt_le hc
      obtain ⟨f1, f2, f3⟩ := pl_fin K2 R2 P2 q3 r5 l1 l2 x
      have kc : (¬ x ≤ 0) ↔ ¬ x = 0 := by
        rw [k2, show (0 : Int32) = zI ↑(0 : Nat) from rfl, zn_le (by omega) (by omega), zn_eq (by omega) (by omega)]; omega
      have kn : x.toNatClampNeg = K := by rw [k2, zn_cl (by omega)]
      dsimp only
      rw [kn]
      have fin : ∀ (h4 : Hp) (p2 : Nat), p1 ≤ p2 → p2 ≤ 8 * n → MSrc h4 b n → PQ (sA h3 3022 m x) h4 → PG h4 p2 → ∃ h5, fX6_want_267 F dd 3000 (zI ↑m) h4 = some h5 ∧ RU F dd τ t as of h h5 (9 * m) n fr m u (if p2 + 8 * K ≤ 8 * n then some ((mkV q x (octs b p2 K) [] : Vt (d + 1)), p2 + 8 * K) else none) := by
        intro h4 p2 m1 m2 S4 Q4 G4
        have R4 := Q4.mk f1 G4 m1 m2
        have hu := f1.2.2.2.1
        have e22 : gA h4 3022 m = zI ↑K := by rw [Q4.1.2.2.2, g22, k2]
        obtain ⟨h5, e5, o5, t5⟩ := woct_lp (F := F) (dd := dd) (i := m) (K := K) (u := u) (p := p2) hm k1 (by omega) hF K 0 F h4 (by omega) (by omega) S4 R4.1.2.2.2.2 e22 G4 (by omega)
        refine ⟨h5, e5, ?_⟩
        by_cases c : p2 + 8 * K ≤ 8 * n
        · rw [if_pos c] at t5 ⊢
          obtain ⟨t6, t7, t8⟩ := t5
          have K5 : KM fr (m + 1) u (sA h3 3022 m x) h5 := (KM.pq Q4).tr (Nat.le_refl _) (Nat.le_refl _) (Nat.le_refl _) (KM.oq o5 (by omega))
          have ol : (octs b p2 K).length = K := by simp [octs]
          refine ⟨0, h5, fun _ => rfl, ⟨?_, ⟨f2.km K5 (by omega), fun i z hz => ?_, trivial⟩, f3.tr (Nat.le_refl _) (by omega) (Nat.le_refl _) K5⟩, ?_⟩
          · rw [sz_mk, oz_mk, szs_nil, ozs_nil, ol]
            exact ⟨⟨t6.1, (o5.2.1 _ _ (by omega)).trans R4.1.2.1, t6.2, (o5.2.1 _ _ (by omega)).trans R4.1.2.2.2.1, t7⟩, R4.2.1, R4.2.2.1, by omega, c⟩
          · obtain ⟨z1, z2⟩ := octs_get hz
            rw [z2]
            exact t8 i (by omega) z1
          · rw [sz_mk, szs_nil]; omega
        · rw [if_neg c] at t5 ⊢
          exact RU.bad t5 (by omega)
      by_cases cc : tB τ q = true ∧ ¬ x = 0 ∧ sho τ q = false
      · rw [if_pos (show tB τ q = true ∧ ¬ x ≤ 0 ∧ sho τ q = false from ⟨cc.1, kc.mpr cc.2.1, cc.2.2⟩)]
        simp only [if_pos cc]
        obtain ⟨e6, g6, l6⟩ := malg_ok (F := F) (dd := dd) S3 f1.pg l2
        obtain ⟨h5, e5, r5⟩ := fin (sI (sA h3 3022 m x) 647 3000 (zI ↑(al8 p1))) (al8 p1) (al8_8 l2).1 l6 ((PQ.s7 _ _).ms S3) (PQ.s7 _ _) g6
        refine ⟨h5, ?_, r5⟩
        unfold fX6_want_263
        rw [e6, cv_s]
        exact e5
      · rw [if_neg (show ¬ (tB τ q = true ∧ ¬ x ≤ 0 ∧ sho τ q = false) from fun z => cc ⟨z.1, kc.mp z.2.1, z.2.2⟩)]
        simp only [if_neg cc]
        exact fin (sA h3 3022 m x) p1 (Nat.le_refl _) l2 S3 (PQ.rf _) f1.pg
  · obtain ⟨h2, e2, B2⟩ := H2 hm
    rw [if_neg hm]
    exact ⟨h2, e2, RU.bad B2 (by omega)⟩
end Lg
