/-! THE MODEL READS (10): elements, whole -/
set_option maxRecDepth 100000
section Em
variable {F dd n N : Nat} {b : Nat → Nat} {τ : Tb} {rl : Int32}
def E12 (F dd : Nat) (rl : Int32) (τ : Tb) (b : Nat → Nat) (n N j d : Nat) : Prop := ∀ (h : Hp) (a fr m u e t as : Nat) (of : Int32) (nf : Nat), MSrc h b n → MR h a fr m u e → MT h τ N → t < N → WFt τ j t → e ≤ n → fr + j ≤ 150 → j < nf →
  ∃ h1, fX6_element_12 F dd nf 3000 (zI ↑t) of (zI ↑as) (zI ↑(1 : Nat)) h = some h1 ∧ RV F dd rl τ t as of h h1 (a + 1) fr m u e (rd b τ d t none a e m)
theorem RV.uw {h h' h1 : Hp} {t as c0 fr m u e d : Nat} {of : Int32} {x : Option (Vt d × Nat)} (K : KM fr m u h h') (rv : RV F dd rl τ t as of h' h1 c0 fr m u e x) : RV F dd rl τ t as of h h1 c0 fr m u e x := by
  obtain ⟨k, h2, r, p⟩ := rv
  refine ⟨k, h2, r, ?_⟩
  cases x with
  | none => exact p
  | some z => obtain ⟨v, a'⟩ := z; exact ⟨⟨p.1.1, p.1.2.1, K.tr (Nat.le_refl _) (Nat.le_refl _) (Nat.le_refl _) p.1.2.2⟩, p.2⟩
/-- the tags of a type are bytes -/
theorem tgs_lt : ∀ {n t : Nat} {g : Option Nat}, WFt τ n t → (∀ y, g = some y → y ≤ 9) → ∀ x ∈ tgs τ n t g, x < 256 := by
  intro n
  induction n with
  | zero => intro t g w; exact w.elim
  | succ n ih =>
    intro t g w hg x hx
    by_cases k : tK τ t = 10
    · obtain ⟨w1, w2⟩ := w.tag k
      have hy : g.getD (tG τ t) ≤ 9 := by
        cases g with
        | none => exact w1
        | some y => exact hg y rfl
      unfold tgs at hx
      rw [if_pos k] at hx
      split at hx
      · exact ih w2 (fun y z => by cases z; exact hy) x hx
      · rcases List.mem_cons.mp hx with z | z
        · omega
        · exact ih w2 (fun y z => by cases z) x z
    · by_cases k9 : tK τ t = 9
      · rw [(tgs_nil w).mpr k9] at hx; cases hx
      · rw [tgs_ne n t g k k9] at hx
        have := w.kind
        have e := List.mem_singleton.mp hx
        rw [e]
        split
        · cases g with
          | none => show 48 < 256; omega
          | some y => have := hg y rfl; show 160 + y < 256; omega
        · cases g with
          | none => show tK τ t < 256; omega
          | some y => have := hg y rfl; show 128 + y < 256; omega
theorem E12.el {j d : Nat} (E : E12 F dd rl τ b n N j d) (hF : j < F) : ElOK F dd rl τ b n N j d := by
  intro h a fr m u e t as of S R T ht w he hfr
  obtain ⟨h1, e1, r1⟩ := E h a fr m u e t as of F S R T ht w he hfr hF
  exact ⟨h1, by unfold fX6_element; exact e1, r1⟩
theorem el_ok (hr : ¬ 2 ≤ rl) (hF : 1000 ≤ F) : ∀ (D j : Nat), j < D → j ≤ 12 → E12 F dd rl τ b n N j D := by
  intro D
  induction D with
  | zero => intro j hj; omega
  | succ D ih =>
    intro j hj hj12 h a fr m u e t as of nf S R T ht w he hfr hnf
    obtain ⟨f, rfl⟩ : ∃ f, nf = f + 1 := ⟨nf - 1, by omega⟩
    obtain ⟨jb, b1, b2, b3, b4⟩ := tgs_cnt (τ := τ) none w
    rw [← bas_fuel w (show j ≤ 200 by omega)] at b2 b3
    rw [← tgs_fuel w (show j ≤ 200 by omega)] at b4
    have tl := tgs_lt (g := none) w (fun y z => by cases z)
    rw [← tgs_fuel w (show j ≤ 200 by omega)] at tl
    have tnil : tgs τ 200 t none = [] ↔ tK τ t = 9 := by rw [tgs_fuel w (show j ≤ 200 by omega)]; exact tgs_nil w
    obtain ⟨h3, e3, U, TA, hb, hlt⟩ := unw_ok (F := F) (d := dd) S.1 T ht w hj12 (by omega)
    have K3 : KM fr m u h h3 := KM.uw U
    have S3 := K3.ms S
    have T3 := K3.mt T
    have R3 := R.uw U
    have hN := T.1
    have f0 : 0 < f := by omega
    generalize hq : bas τ 200 t = q at *
    obtain ⟨⟨a1, -⟩, -⟩ := T3.2 q hlt
    have kq := b2.kind
    have t4 := TA.1
    by_cases k9 : tK τ q = 9
    · -- a choice
      have w9 := b2.cho k9
      rw [rd, hq, if_pos k9]
      have E : fX6_element_12 F dd (f + 1) 3000 (zI ↑t) of (zI ↑as) (zI ↑(1 : Nat)) h = fX6_element_59 F dd (fX6_element_12 F dd f) F 3000 (zI ↑t) of (zI ↑as) (zI ↑(0 : Nat)) (zI ((0 : Nat) + (tgs τ 200 t none).length - 1 : Int)) h3 := by
        rw [fX6_element_12]
        unfold fX6_element_49
        have em : zI ↑(tgs τ 200 t none).length - zI ↑(1 : Nat) = zI ((0 : Nat) + (tgs τ 200 t none).length - 1 : Int) := by rw [zI_sub]; congr 1; omega
        simp (disch := omega) only [mp607, mp608, mp609, mp611, mp612, mp613, mp614, mp615, mp616, mp617, mp618, mp619, mp620, mp621, mp622, mp625, mp626, mp631, mp632, mp633, mp636, mp637, mp638, mp639, mp640, mp641, mp642, mp643, mp645, mp646, mp650, mp651, mp652, mp653, mp654, mp655, mp656, mp657, mp658, ln3001, ln3002, ln3003, ln3004, ln3005, ln3006, ln3007, ln3008, ln3009, ln3010, ln3011, ln3012, ln3013, ln3014, ln3015, ln3016, ln3017, ln3018, ln3019, ln3020, ln3021, ln3022, ln3023, ln3024, ln3025, ln3026, ln3027, ln3028, ln3029, ln3030, ln3031, ln3032, ln3033, ln3034, ln3035, ln3036, ln3037, ln3038, ln3039, ck_t, nn_s, bn_d, ca_s, cv_s, oc_n, oc_s, cx_i, cx_r, cy_i, cy_r, gI_sI, gI_sP, gI_sA, gI_sR, gI_sJ, gI_nw, gI_nx, gP_sI, gP_sP, gP_sA, gP_sR, gP_sJ, gP_nw, gP_nx, gA_sI, gA_sP, gA_sA, gA_sR, gA_sJ, gA_nw, gA_nx, gR_sI, gR_sP, gR_sA, gR_sR, gR_sJ, gR_nw, gR_nx, reduceCtorEq, Nat.reduceEqDiff, or_self, or_true, true_or, or_false, false_or, eq_self, and_self, and_true, true_and, and_false, false_and, if_true, if_false, ↓reduceIte, ne_eq, not_true_eq_false, not_false_eq_true, zl0, zl1, zl2, zl3, zl4, zl5, zl6, zl7, zl8, zl9, zl10, zl12, zl15, zl16, zl20, zl31, zl32, zl48, zl97, zl99, zl100, zl120, zl127, zl128, zl129, zl130, zl137, zl150, zl160, zl169, zl254, zl255, zl256, zl4000, zl65535, zl65536, if_pos, if_neg, zn_inb, zn_cl, zn_eq, zn_lt, zn_le, zn_add, zn_sub, zn_mul, zn_addn, zn_eqn, zn_neq, zn_nlt, zn_nle, zn_ckb, isB_b2i, b2z0, b2z1, b2it, b2if, R.1.2.2.1, e3, S3.1.2, hb, a1, k9, t4]
        rw [← em, zI_sub]
      rw [E]
      have := tags_ok2 (F := F) (dd := dd) (j := jb) (b := b) (n := n) (N := N) (τ := τ) (m := m) (u := u) (rl := rl) (t := t) (as := as) (of := of) (nf := f) (q := q) (al := tgs τ 200 t none) (x8 := 0) (rdCh b τ (fun t a e m => rd b τ D t none a e m) q m) f0 hr hF ?_ (tgs τ 200 t none) [] [] F h3 a fr e (by simp) rfl (by omega) tl S3 R3 T3 he (by omega) TA hb (by omega)
      · obtain ⟨h1, e1, r1⟩ := this
        exact ⟨h1, e1, r1.uw K3⟩
      · intro h a fr e S R T he hfr TA hb
        obtain ⟨⟨a1, a2, -⟩, -, -, -, a9⟩ := T.2 q hlt
        have bd := bnd_ok (F := F) (d := dd) S R
        have hn := S.2.2.1
        have r10 := R.2.2.2.2.2
        have r7 := R.2.2.1
        have E2 : fX6_element_121 F dd (fX6_element_12 F dd f) 3000 (zI ↑t) of (zI ↑as) h = fX6_element_186 F dd (fX6_element_12 F dd f) F 3000 (zI ↑t) of (zI ↑as) (zI ↑(1 : Nat)) (zI ↑(bitA b a e)) (zI ↑(0 : Nat)) h := by
          unfold fX6_element_121 fX6_element_147 fX6_element_181
          by_cases c : a < e
          · obtain ⟨s1, s2⟩ := S.2.2.2 a (by omega)
            have b0 : bitA b a e = bitO (b a) := by unfold bitA; rw [if_pos c]
            rw [b0]
            simp (disch := omega) only [mp607, mp608, mp609, mp611, mp612, mp613, mp614, mp615, mp616, mp617, mp618, mp619, mp620, mp621, mp622, mp625, mp626, mp631, mp632, mp633, mp636, mp637, mp638, mp639, mp640, mp641, mp642, mp643, mp645, mp646, mp650, mp651, mp652, mp653, mp654, mp655, mp656, mp657, mp658, ln3001, ln3002, ln3003, ln3004, ln3005, ln3006, ln3007, ln3008, ln3009, ln3010, ln3011, ln3012, ln3013, ln3014, ln3015, ln3016, ln3017, ln3018, ln3019, ln3020, ln3021, ln3022, ln3023, ln3024, ln3025, ln3026, ln3027, ln3028, ln3029, ln3030, ln3031, ln3032, ln3033, ln3034, ln3035, ln3036, ln3037, ln3038, ln3039, ck_t, nn_s, bn_d, ca_s, cv_s, oc_n, oc_s, cx_i, cx_r, cy_i, cy_r, gI_sI, gI_sP, gI_sA, gI_sR, gI_sJ, gI_nw, gI_nx, gP_sI, gP_sP, gP_sA, gP_sR, gP_sJ, gP_nw, gP_nx, gA_sI, gA_sP, gA_sA, gA_sR, gA_sJ, gA_nw, gA_nx, gR_sI, gR_sP, gR_sA, gR_sR, gR_sJ, gR_nw, gR_nx, reduceCtorEq, Nat.reduceEqDiff, or_self, or_true, true_or, or_false, false_or, eq_self, and_self, and_true, true_and, and_false, false_and, if_true, if_false, ↓reduceIte, ne_eq, not_true_eq_false, not_false_eq_true, zl0, zl1, zl2, zl3, zl4, zl5, zl6, zl7, zl8, zl9, zl10, zl12, zl15, zl16, zl20, zl31, zl32, zl48, zl97, zl99, zl100, zl120, zl127, zl128, zl129, zl130, zl137, zl150, zl160, zl169, zl254, zl255, zl256, zl4000, zl65535, zl65536, if_pos, if_neg, zn_inb, zn_cl, zn_eq, zn_lt, zn_le, zn_add, zn_sub, zn_mul, zn_addn, zn_eqn, zn_neq, zn_nlt, zn_nle, zn_ckb, isB_b2i, b2z0, b2z1, b2it, b2if, R.1.2.2.1, R.1.1, S.1.2, hb, a1, k9, bd, s1, mbit_ok s2]
          · have b0 : bitA b a e = 0 := by unfold bitA; rw [if_neg c]
            rw [b0]
            simp (disch := omega) only [mp607, mp608, mp609, mp611, mp612, mp613, mp614, mp615, mp616, mp617, mp618, mp619, mp620, mp621, mp622, mp625, mp626, mp631, mp632, mp633, mp636, mp637, mp638, mp639, mp640, mp641, mp642, mp643, mp645, mp646, mp650, mp651, mp652, mp653, mp654, mp655, mp656, mp657, mp658, ln3001, ln3002, ln3003, ln3004, ln3005, ln3006, ln3007, ln3008, ln3009, ln3010, ln3011, ln3012, ln3013, ln3014, ln3015, ln3016, ln3017, ln3018, ln3019, ln3020, ln3021, ln3022, ln3023, ln3024, ln3025, ln3026, ln3027, ln3028, ln3029, ln3030, ln3031, ln3032, ln3033, ln3034, ln3035, ln3036, ln3037, ln3038, ln3039, ck_t, nn_s, bn_d, ca_s, cv_s, oc_n, oc_s, cx_i, cx_r, cy_i, cy_r, gI_sI, gI_sP, gI_sA, gI_sR, gI_sJ, gI_nw, gI_nx, gP_sI, gP_sP, gP_sA, gP_sR, gP_sJ, gP_nw, gP_nx, gA_sI, gA_sP, gA_sA, gA_sR, gA_sJ, gA_nw, gA_nx, gR_sI, gR_sP, gR_sA, gR_sR, gR_sJ, gR_nw, gR_nx, reduceCtorEq, Nat.reduceEqDiff, or_self, or_true, true_or, or_false, false_or, eq_self, and_self, and_true, true_and, and_false, false_and, if_true, if_false, ↓reduceIte, ne_eq, not_true_eq_false, not_false_eq_true, zl0, zl1, zl2, zl3, zl4, zl5, zl6, zl7, zl8, zl9, zl10, zl12, zl15, zl16, zl20, zl31, zl32, zl48, zl97, zl99, zl100, zl120, zl127, zl128, zl129, zl130, zl137, zl150, zl160, zl169, zl254, zl255, zl256, zl4000, zl65535, zl65536, if_pos, if_neg, zn_inb, zn_cl, zn_eq, zn_lt, zn_le, zn_add, zn_sub, zn_mul, zn_addn, zn_eqn, zn_neq, zn_nlt, zn_nle, zn_ckb, isB_b2i, b2z0, b2z1, b2it, b2if, R.1.2.2.1, R.1.1, S.1.2, hb, a1, k9, bd]
        rw [E2, alt_lp (F := F) (dd := dd) (nf0 := f) S.1 T hlt hb b2 k9 hF (tN τ q) 0 F (by omega) (by omega)]
        unfold rdCh fX6_element_252 fX6_element_299 fX6_element_301
        cases ha : alt τ q (bitA b a e) (tN τ q) 0 with
        | none =>
          have ad : fX6_adds F dd 3000 (zI ↑t) of (zI ↑as) (zI ↑(tN τ q)) (sI h 649 3000 (zI ↑(0 : Nat))) = some (zI ↑(99 : Nat), sI h 649 3000 (zI ↑(0 : Nat))) := by
            have r8 := R.2.2.2.1
            unfold fX6_adds fX6_adds_14
            by_cases c : m = 100
            · simp (disch := omega) only [mp607, mp608, mp609, mp611, mp612, mp613, mp614, mp615, mp616, mp617, mp618, mp619, mp620, mp621, mp622, mp625, mp626, mp631, mp632, mp633, mp636, mp637, mp638, mp639, mp640, mp641, mp642, mp643, mp645, mp646, mp650, mp651, mp652, mp653, mp654, mp655, mp656, mp657, mp658, ln3001, ln3002, ln3003, ln3004, ln3005, ln3006, ln3007, ln3008, ln3009, ln3010, ln3011, ln3012, ln3013, ln3014, ln3015, ln3016, ln3017, ln3018, ln3019, ln3020, ln3021, ln3022, ln3023, ln3024, ln3025, ln3026, ln3027, ln3028, ln3029, ln3030, ln3031, ln3032, ln3033, ln3034, ln3035, ln3036, ln3037, ln3038, ln3039, ck_t, nn_s, bn_d, ca_s, cv_s, oc_n, oc_s, cx_i, cx_r, cy_i, cy_r, gI_sI, gI_sP, gI_sA, gI_sR, gI_sJ, gI_nw, gI_nx, gP_sI, gP_sP, gP_sA, gP_sR, gP_sJ, gP_nw, gP_nx, gA_sI, gA_sP, gA_sA, gA_sR, gA_sJ, gA_nw, gA_nx, gR_sI, gR_sP, gR_sA, gR_sR, gR_sJ, gR_nw, gR_nx, reduceCtorEq, Nat.reduceEqDiff, or_self, or_true, true_or, or_false, false_or, eq_self, and_self, and_true, true_and, and_false, false_and, if_true, if_false, ↓reduceIte, ne_eq, not_true_eq_false, not_false_eq_true, zl0, zl1, zl2, zl3, zl4, zl5, zl6, zl7, zl8, zl9, zl10, zl12, zl15, zl16, zl20, zl31, zl32, zl48, zl97, zl99, zl100, zl120, zl127, zl128, zl129, zl130, zl137, zl150, zl160, zl169, zl254, zl255, zl256, zl4000, zl65535, zl65536, if_pos, if_neg, zn_inb, zn_cl, zn_eq, zn_lt, zn_le, zn_add, zn_sub, zn_mul, zn_addn, zn_eqn, zn_neq, zn_nlt, zn_nle, zn_ckb, isB_b2i, b2z0, b2z1, b2it, b2if, R.1.2.2.2.1, sI_sI]
            · simp (disch := omega) only [mp607, mp608, mp609, mp611, mp612, mp613, mp614, mp615, mp616, mp617, mp618, mp619, mp620, mp621, mp622, mp625, mp626, mp631, mp632, mp633, mp636, mp637, mp638, mp639, mp640, mp641, mp642, mp643, mp645, mp646, mp650, mp651, mp652, mp653, mp654, mp655, mp656, mp657, mp658, ln3001, ln3002, ln3003, ln3004, ln3005, ln3006, ln3007, ln3008, ln3009, ln3010, ln3011, ln3012, ln3013, ln3014, ln3015, ln3016, ln3017, ln3018, ln3019, ln3020, ln3021, ln3022, ln3023, ln3024, ln3025, ln3026, ln3027, ln3028, ln3029, ln3030, ln3031, ln3032, ln3033, ln3034, ln3035, ln3036, ln3037, ln3038, ln3039, ck_t, nn_s, bn_d, ca_s, cv_s, oc_n, oc_s, cx_i, cx_r, cy_i, cy_r, gI_sI, gI_sP, gI_sA, gI_sR, gI_sJ, gI_nw, gI_nx, gP_sI, gP_sP, gP_sA, gP_sR, gP_sJ, gP_nw, gP_nx, gA_sI, gA_sP, gA_sA, gA_sR, gA_sJ, gA_nw, gA_nx, gR_sI, gR_sP, gR_sA, gR_sR, gR_sJ, gR_nw, gR_nx, reduceCtorEq, Nat.reduceEqDiff, or_self, or_true, true_or, or_false, false_or, eq_self, and_self, and_true, true_and, and_false, false_and, if_true, if_false, ↓reduceIte, ne_eq, not_true_eq_false, not_false_eq_true, zl0, zl1, zl2, zl3, zl4, zl5, zl6, zl7, zl8, zl9, zl10, zl12, zl15, zl16, zl20, zl31, zl32, zl48, zl97, zl99, zl100, zl120, zl127, zl128, zl129, zl130, zl137, zl150, zl160, zl169, zl254, zl255, zl256, zl4000, zl65535, zl65536, if_pos, if_neg, zn_inb, zn_cl, zn_eq, zn_lt, zn_le, zn_add, zn_sub, zn_mul, zn_addn, zn_eqn, zn_neq, zn_nlt, zn_nle, zn_ckb, isB_b2i, b2z0, b2z1, b2it, b2if, R.1.2.2.2.1]
          simp (disch := omega) only [mp607, mp608, mp609, mp611, mp612, mp613, mp614, mp615, mp616, mp617, mp618, mp619, mp620, mp621, mp622, mp625, mp626, mp631, mp632, mp633, mp636, mp637, mp638, mp639, mp640, mp641, mp642, mp643, mp645, mp646, mp650, mp651, mp652, mp653, mp654, mp655, mp656, mp657, mp658, ln3001, ln3002, ln3003, ln3004, ln3005, ln3006, ln3007, ln3008, ln3009, ln3010, ln3011, ln3012, ln3013, ln3014, ln3015, ln3016, ln3017, ln3018, ln3019, ln3020, ln3021, ln3022, ln3023, ln3024, ln3025, ln3026, ln3027, ln3028, ln3029, ln3030, ln3031, ln3032, ln3033, ln3034, ln3035, ln3036, ln3037, ln3038, ln3039, ck_t, nn_s, bn_d, ca_s, cv_s, oc_n, oc_s, cx_i, cx_r, cy_i, cy_r, gI_sI, gI_sP, gI_sA, gI_sR, gI_sJ, gI_nw, gI_nx, gP_sI, gP_sP, gP_sA, gP_sR, gP_sJ, gP_nw, gP_nx, gA_sI, gA_sP, gA_sA, gA_sR, gA_sJ, gA_nw, gA_nx, gR_sI, gR_sP, gR_sA, gR_sR, gR_sJ, gR_nw, gR_nx, reduceCtorEq, Nat.reduceEqDiff, or_self, or_true, true_or, or_false, false_or, eq_self, and_self, and_true, true_and, and_false, false_and, if_true, if_false, ↓reduceIte, ne_eq, not_true_eq_false, not_false_eq_true, zl0, zl1, zl2, zl3, zl4, zl5, zl6, zl7, zl8, zl9, zl10, zl12, zl15, zl16, zl20, zl31, zl32, zl48, zl97, zl99, zl100, zl120, zl127, zl128, zl129, zl130, zl137, zl150, zl160, zl169, zl254, zl255, zl256, zl4000, zl65535, zl65536, if_pos, if_neg, zn_inb, zn_cl, zn_eq, zn_lt, zn_le, zn_add, zn_sub, zn_mul, zn_addn, zn_eqn, zn_neq, zn_nlt, zn_nle, zn_ckb, isB_b2i, b2z0, b2z1, b2it, b2if, Option.getD_none, Option.isSome_none, ad]
          rw [el12_b (by unfold Bad; rw [gI_sI, if_pos ⟨rfl, rfl⟩]) f0]
          exact ⟨_, rfl, RV.bad (by unfold Bad; rw [gI_sI, if_pos ⟨rfl, rfl⟩]) (by omega)⟩
        | some k =>
          have hk := alt_bit _ _ ha
          have hkN : k < tN τ q := by omega
          obtain ⟨c1, c2, c3, c4⟩ := a9 k hkN
          have wk := w9.2.2 k hkN
          have id1 : sI h 649 3000 (zI ↑(1 : Nat)) = h := sI_id R.1.2.2.1
          dsimp only
          by_cases hm : m < 100
          · rw [if_pos hm]
            obtain ⟨h2, e2, R2, P2, K2, k2b, -, ar⟩ := adds_ok (F := F) (d := dd) S R hm t as of (zI ↑k)
            have S2 := K2.ms S
            have T2 := K2.mt T
            have hb2 : gI h2 623 3000 = zI ↑q := k2b.trans hb
            have ch : gA h2 3013 (6 * q + k) = zI ↑(tC τ q k) := by rw [ar _ _ (by omega)]; exact c1
            obtain ⟨h4, e4, k4, h5, r5, p5⟩ := ih jb (by omega) (by omega) h2 a fr (m + 1) u e (tC τ q k) 0 (zI ↑m) f S2 R2 T2 c4 wk he (by omega) (by omega)
            simp (disch := omega) only [mp607, mp608, mp609, mp611, mp612, mp613, mp614, mp615, mp616, mp617, mp618, mp619, mp620, mp621, mp622, mp625, mp626, mp631, mp632, mp633, mp636, mp637, mp638, mp639, mp640, mp641, mp642, mp643, mp645, mp646, mp650, mp651, mp652, mp653, mp654, mp655, mp656, mp657, mp658, ln3001, ln3002, ln3003, ln3004, ln3005, ln3006, ln3007, ln3008, ln3009, ln3010, ln3011, ln3012, ln3013, ln3014, ln3015, ln3016, ln3017, ln3018, ln3019, ln3020, ln3021, ln3022, ln3023, ln3024, ln3025, ln3026, ln3027, ln3028, ln3029, ln3030, ln3031, ln3032, ln3033, ln3034, ln3035, ln3036, ln3037, ln3038, ln3039, ck_t, nn_s, bn_d, ca_s, cv_s, oc_n, oc_s, cx_i, cx_r, cy_i, cy_r, gI_sI, gI_sP, gI_sA, gI_sR, gI_sJ, gI_nw, gI_nx, gP_sI, gP_sP, gP_sA, gP_sR, gP_sJ, gP_nw, gP_nx, gA_sI, gA_sP, gA_sA, gA_sR, gA_sJ, gA_nw, gA_nx, gR_sI, gR_sP, gR_sA, gR_sR, gR_sJ, gR_nw, gR_nx, reduceCtorEq, Nat.reduceEqDiff, or_self, or_true, true_or, or_false, false_or, eq_self, and_self, and_true, true_and, and_false, false_and, if_true, if_false, ↓reduceIte, ne_eq, not_true_eq_false, not_false_eq_true, zl0, zl1, zl2, zl3, zl4, zl5, zl6, zl7, zl8, zl9, zl10, zl12, zl15, zl16, zl20, zl31, zl32, zl48, zl97, zl99, zl100, zl120, zl127, zl128, zl129, zl130, zl137, zl150, zl160, zl169, zl254, zl255, zl256, zl4000, zl65535, zl65536, if_pos, if_neg, zn_inb, zn_cl, zn_eq, zn_lt, zn_le, zn_add, zn_sub, zn_mul, zn_addn, zn_eqn, zn_neq, zn_nlt, zn_nle, zn_ckb, isB_b2i, b2z0, b2z1, b2it, b2if, Option.getD_some, Option.isSome_some, id1, e2, R2.1.2.2.1, S2.1.2, hb2, ch, e4]
            refine ⟨h4, rfl, ?_⟩
            cases hr1 : rd b τ D (tC τ q k) none a e (m + 1) with
            | none => rw [hr1] at p5; exact ⟨k4, h5, r5, p5⟩
            | some z =>
              obtain ⟨v, a'⟩ := z
              rw [hr1] at p5
              obtain ⟨⟨R5, P5, K5⟩, hk5⟩ := p5
              have K25 : KM fr m u h h5 := K2.tr (Nat.le_refl _) (Nat.le_succ _) (Nat.le_refl _) K5
              refine ⟨k4, h5, r5, ⟨?_, ⟨?_, fun i x hx => (by cases hx), ⟨?_, trivial⟩⟩, K25⟩, hk5⟩
              · rw [sz_mk, oz_mk, szs_cons, szs_nil, ozs_cons, ozs_nil, List.length_nil, Nat.zero_add, Nat.add_zero, Nat.add_zero, ← Nat.add_assoc]; exact R5
              · show PtI h5 m t of as (Int32.ofNat k) u
                rw [zI_nat]; exact P2.km K5 (by omega)
              · have e9 : kdT τ q (Int32.ofNat k) 0 = tC τ q k := by unfold kdT; rw [if_neg (by omega), if_neg (by omega), zI_nat, zn_cl (by omega)]
                show PV h5 τ D v (m + 1) (u + 0) (zI ↑m) 0 (kdT τ q (Int32.ofNat k) 0)
                rw [e9]; exact P5
          · rw [if_neg hm]
            have ad := adds_no (F := F) (d := dd) S R he hm (zI ↑t) (zI ↑as) of (zI ↑k)
            simp (disch := omega) only [mp607, mp608, mp609, mp611, mp612, mp613, mp614, mp615, mp616, mp617, mp618, mp619, mp620, mp621, mp622, mp625, mp626, mp631, mp632, mp633, mp636, mp637, mp638, mp639, mp640, mp641, mp642, mp643, mp645, mp646, mp650, mp651, mp652, mp653, mp654, mp655, mp656, mp657, mp658, ln3001, ln3002, ln3003, ln3004, ln3005, ln3006, ln3007, ln3008, ln3009, ln3010, ln3011, ln3012, ln3013, ln3014, ln3015, ln3016, ln3017, ln3018, ln3019, ln3020, ln3021, ln3022, ln3023, ln3024, ln3025, ln3026, ln3027, ln3028, ln3029, ln3030, ln3031, ln3032, ln3033, ln3034, ln3035, ln3036, ln3037, ln3038, ln3039, ck_t, nn_s, bn_d, ca_s, cv_s, oc_n, oc_s, cx_i, cx_r, cy_i, cy_r, gI_sI, gI_sP, gI_sA, gI_sR, gI_sJ, gI_nw, gI_nx, gP_sI, gP_sP, gP_sA, gP_sR, gP_sJ, gP_nw, gP_nx, gA_sI, gA_sP, gA_sA, gA_sR, gA_sJ, gA_nw, gA_nx, gR_sI, gR_sP, gR_sA, gR_sR, gR_sJ, gR_nw, gR_nx, reduceCtorEq, Nat.reduceEqDiff, or_self, or_true, true_or, or_false, false_or, eq_self, and_self, and_true, true_and, and_false, false_and, if_true, if_false, ↓reduceIte, ne_eq, not_true_eq_false, not_false_eq_true, zl0, zl1, zl2, zl3, zl4, zl5, zl6, zl7, zl8, zl9, zl10, zl12, zl15, zl16, zl20, zl31, zl32, zl48, zl97, zl99, zl100, zl120, zl127, zl128, zl129, zl130, zl137, zl150, zl160, zl169, zl254, zl255, zl256, zl4000, zl65535, zl65536, if_pos, if_neg, zn_inb, zn_cl, zn_eq, zn_lt, zn_le, zn_add, zn_sub, zn_mul, zn_addn, zn_eqn, zn_neq, zn_nlt, zn_nle, zn_ckb, isB_b2i, b2z0, b2z1, b2it, b2if, Option.getD_some, Option.isSome_some, id1, ad]
            rw [el12_b (by unfold Bad; rw [gI_sI, if_pos ⟨rfl, rfl⟩]) f0]
            exact ⟨_, rfl, RV.bad (by unfold Bad; rw [gI_sI, if_pos ⟨rfl, rfl⟩]) (by omega)⟩
    · -- what has a tag of its own
      have tne : tgs τ 200 t none ≠ [] := by
        intro z
        have k9' := tnil.mp z
        have : bas τ 200 t = t := bas_ne (by omega)
        rw [hq] at this
        rw [this] at k9
        exact k9 k9'
      have hsp := List.dropLast_concat_getLast tne
      have hl0 : (tgs τ 200 t none).getLastD 0 = (tgs τ 200 t none).getLast tne := by
        have : ∀ (l : List Nat) (h : l ≠ []), l.getLastD 0 = l.getLast h := by
          intro l h
          cases l with
          | nil => exact absurd rfl h
          | cons x l => rfl
        exact this _ tne
      have hlm : (tgs τ 200 t none).getLast tne < 256 := tl _ (List.getLast_mem tne)
      have hlen : (tgs τ 200 t none).dropLast.length + 1 = (tgs τ 200 t none).length := by
        have := List.length_pos_iff.mpr tne
        rw [List.length_dropLast]; omega
      rw [rd, hq, if_neg k9]
      generalize hx0 : (tgs τ 200 t none).getLastD 0 = x0 at *
      have hx1 : x0 < 256 := by rw [hl0]; exact hlm
      have t0 : ∀ hh : Hp, TgA hh (tgs τ 200 t none) → gA hh 3016 0 = zI ↑x0 := by
        intro hh TA
        apply TA.2
        rw [← hsp, List.reverse_append, ← hl0]
        rfl
      have E : fX6_element_12 F dd (f + 1) 3000 (zI ↑t) of (zI ↑as) (zI ↑(1 : Nat)) h = fX6_element_59 F dd (fX6_element_12 F dd f) F 3000 (zI ↑t) of (zI ↑as) (zI ↑(1 : Nat)) (zI ((1 : Nat) + (tgs τ 200 t none).dropLast.length - 1 : Int)) h3 := by
        rw [fX6_element_12]
        unfold fX6_element_49
        have em : zI ↑(tgs τ 200 t none).length - zI ↑(1 : Nat) = zI ((1 : Nat) + (tgs τ 200 t none).dropLast.length - 1 : Int) := by rw [zI_sub]; congr 1; omega
        simp (disch := omega) only [mp607, mp608, mp609, mp611, mp612, mp613, mp614, mp615, mp616, mp617, mp618, mp619, mp620, mp621, mp622, mp625, mp626, mp631, mp632, mp633, mp636, mp637, mp638, mp639, mp640, mp641, mp642, mp643, mp645, mp646, mp650, mp651, mp652, mp653, mp654, mp655, mp656, mp657, mp658, ln3001, ln3002, ln3003, ln3004, ln3005, ln3006, ln3007, ln3008, ln3009, ln3010, ln3011, ln3012, ln3013, ln3014, ln3015, ln3016, ln3017, ln3018, ln3019, ln3020, ln3021, ln3022, ln3023, ln3024, ln3025, ln3026, ln3027, ln3028, ln3029, ln3030, ln3031, ln3032, ln3033, ln3034, ln3035, ln3036, ln3037, ln3038, ln3039, ck_t, nn_s, bn_d, ca_s, cv_s, oc_n, oc_s, cx_i, cx_r, cy_i, cy_r, gI_sI, gI_sP, gI_sA, gI_sR, gI_sJ, gI_nw, gI_nx, gP_sI, gP_sP, gP_sA, gP_sR, gP_sJ, gP_nw, gP_nx, gA_sI, gA_sP, gA_sA, gA_sR, gA_sJ, gA_nw, gA_nx, gR_sI, gR_sP, gR_sA, gR_sR, gR_sJ, gR_nw, gR_nx, reduceCtorEq, Nat.reduceEqDiff, or_self, or_true, true_or, or_false, false_or, eq_self, and_self, and_true, true_and, and_false, false_and, if_true, if_false, ↓reduceIte, ne_eq, not_true_eq_false, not_false_eq_true, zl0, zl1, zl2, zl3, zl4, zl5, zl6, zl7, zl8, zl9, zl10, zl12, zl15, zl16, zl20, zl31, zl32, zl48, zl97, zl99, zl100, zl120, zl127, zl128, zl129, zl130, zl137, zl150, zl160, zl169, zl254, zl255, zl256, zl4000, zl65535, zl65536, if_pos, if_neg, zn_inb, zn_cl, zn_eq, zn_lt, zn_le, zn_add, zn_sub, zn_mul, zn_addn, zn_eqn, zn_neq, zn_nlt, zn_nle, zn_ckb, isB_b2i, b2z0, b2z1, b2it, b2if, R.1.2.2.1, e3, S3.1.2, hb, a1, k9, t4]
        rw [← em, zn_sub (by omega)]
      rw [E]
      have := tags_ok2 (F := F) (dd := dd) (j := jb + 1) (b := b) (n := n) (N := N) (τ := τ) (m := m) (u := u) (rl := rl) (t := t) (as := as) (of := of) (nf := f) (q := q) (al := tgs τ 200 t none) (x8 := 1) (rdIn b τ (fun t a e m => rd b τ D t none a e m) q x0 m) f0 hr hF ?_ (tgs τ 200 t none).dropLast [] [x0] F h3 a fr e (by rw [hl0]; exact hsp.symm) rfl (by omega) (fun x hx => tl x (List.dropLast_subset _ hx)) S3 R3 T3 he (by omega) TA hb (by omega)
      · obtain ⟨h1, e1, r1⟩ := this
        exact ⟨h1, e1, r1.uw K3⟩
      · intro h a fr e S R T he hfr TA hb
        obtain ⟨⟨a1, a2, -⟩, -⟩ := T.2 q hlt
        have hn := S.2.2.1
        have r10 := R.2.2.2.2.2
        have r7 := R.2.2.1
        have r9 := R.2.2.2.2.1
        have E2 : fX6_element_121 F dd (fX6_element_12 F dd f) 3000 (zI ↑t) of (zI ↑as) h = fX6_inner F dd 3000 (zI ↑t) of (zI ↑as) h := by
          obtain ⟨g, rfl⟩ : ∃ g, f = g + 1 := ⟨f - 1, by omega⟩
          unfold fX6_element_121 fX6_element_146 fX6_element_147 fX6_element_301
          rw [fX6_element_12]
          unfold fX6_element_304
          simp (disch := omega) only [mp607, mp608, mp609, mp611, mp612, mp613, mp614, mp615, mp616, mp617, mp618, mp619, mp620, mp621, mp622, mp625, mp626, mp631, mp632, mp633, mp636, mp637, mp638, mp639, mp640, mp641, mp642, mp643, mp645, mp646, mp650, mp651, mp652, mp653, mp654, mp655, mp656, mp657, mp658, ln3001, ln3002, ln3003, ln3004, ln3005, ln3006, ln3007, ln3008, ln3009, ln3010, ln3011, ln3012, ln3013, ln3014, ln3015, ln3016, ln3017, ln3018, ln3019, ln3020, ln3021, ln3022, ln3023, ln3024, ln3025, ln3026, ln3027, ln3028, ln3029, ln3030, ln3031, ln3032, ln3033, ln3034, ln3035, ln3036, ln3037, ln3038, ln3039, ck_t, nn_s, bn_d, ca_s, cv_s, oc_n, oc_s, cx_i, cx_r, cy_i, cy_r, gI_sI, gI_sP, gI_sA, gI_sR, gI_sJ, gI_nw, gI_nx, gP_sI, gP_sP, gP_sA, gP_sR, gP_sJ, gP_nw, gP_nx, gA_sI, gA_sP, gA_sA, gA_sR, gA_sJ, gA_nw, gA_nx, gR_sI, gR_sP, gR_sA, gR_sR, gR_sJ, gR_nw, gR_nx, reduceCtorEq, Nat.reduceEqDiff, or_self, or_true, true_or, or_false, false_or, eq_self, and_self, and_true, true_and, and_false, false_and, if_true, if_false, ↓reduceIte, ne_eq, not_true_eq_false, not_false_eq_true, zl0, zl1, zl2, zl3, zl4, zl5, zl6, zl7, zl8, zl9, zl10, zl12, zl15, zl16, zl20, zl31, zl32, zl48, zl97, zl99, zl100, zl120, zl127, zl128, zl129, zl130, zl137, zl150, zl160, zl169, zl254, zl255, zl256, zl4000, zl65535, zl65536, if_pos, if_neg, zn_inb, zn_cl, zn_eq, zn_lt, zn_le, zn_add, zn_sub, zn_mul, zn_addn, zn_eqn, zn_neq, zn_nlt, zn_nle, zn_ckb, isB_b2i, b2z0, b2z1, b2it, b2if, R.1.2.2.1, S.1.2, hb, a1, k9]
          cases fX6_inner F dd 3000 (zI ↑t) of (zI ↑as) h <;> rfl
        rw [E2]
        have ht0 := t0 h TA
        by_cases k67 : tK τ q = 6 ∨ tK τ q = 7
        · obtain ⟨h1, e1, q1⟩ := grp_in (F := F) (dd := dd) (t := t) (as := as) (of := of) S R T hlt hb ht0 hx1 he (by omega) k67
          refine ⟨h1, e1, ?_⟩
          by_cases hm : m < 100
          · rw [if_pos hm] at q1
            unfold rdIn
            rw [if_pos hm]
            cases hen : ent b x0 a e with
            | none =>
              rw [hen] at q1
              have : (if tK τ q = 6 then rdSq b τ (fun t a e m => rd b τ D t none a e m) q x0 m a e else if tK τ q = 7 then rdLs b τ (fun t a e m => rd b τ D t none a e m) q x0 m a e else rdLf b τ q x0 a e) = none := by
                rcases k67 with z | z
                · rw [if_pos z]; unfold rdSq; rw [hen]
                · rw [if_neg (by omega), if_pos z]; unfold rdLs; rw [hen]
              rw [this]
              exact RV.bad q1 (by omega)
            | some z =>
              obtain ⟨a1', e1', lo⟩ := z
              rw [hen] at q1
              obtain ⟨R1, P1, K1, f1, f2, f3, l1, l2, l3⟩ := q1
              have G : ∀ d : Nat, GQ b τ n N h h1 t as of q fr m u a1' e1' e lo ([] : List (Nat × Vt d)) := fun d =>
                ⟨K1.ms S, K1.mt T, R1, ⟨f1, f2⟩, R.2.1.km K1, ⟨l3, by omega⟩, P1, trivial, K1⟩
              rcases k67 with k6 | k7
              · rw [if_pos k6]
                cases D with
                | zero => omega
                | succ D =>
                  obtain ⟨h4, U4, -, hb4, e4⟩ := grp_go (F := F) (dd := dd) (G (D + 1)) ht w hj12 hq (Or.inl k6) f3 hm hF
                  rw [if_pos k6] at e4
                  have G5 := (G (D + 1)).km (KM.uw U4) ((G (D + 1)).2.2.1.uw U4)
                  have EO : ElOK F dd rl τ b n N jb (D + 1) := (ih jb (by omega) (by omega)).el (by omega)
                  obtain ⟨h5, e5, p5⟩ := sq207 (F := F) (dd := dd) (rl := rl) EO hr ht w hj12 hq b2 k6 hlt hm (by omega) hF (tN τ q) 0 F h4 a1' [] G5 (by simp) (by omega) (by have := (b2.seq k6).1; omega)
                  rw [szs_nil] at p5
                  have sp : rdSq b τ (fun t a e m => rd b τ (D + 1) t none a e m) q x0 m a e = fnG b (fun _ => true) q e1' lo [] (rdS b τ (fun t a e m => rd b τ (D + 1) t none a e m) (dfl τ (D + 1)) q e1' (tN τ q) 0 a1' (m + 1)) := by
                    unfold rdSq
                    rw [hen]
                    dsimp only
                    cases rdS b τ (fun t a e m => rd b τ (D + 1) t none a e m) (dfl τ (D + 1)) q e1' (tN τ q) 0 a1' (m + 1) with
                    | none => rfl
                    | some z =>
                      obtain ⟨ks, a2⟩ := z
                      simp only [fnG, List.length_nil, Nat.zero_add, List.nil_append, if_true]
                      cases lea b a2 e1' lo <;> rfl
                  rw [sp]
                  refine RV.pre (k1 := 1) (h1 := h5) (c1 := a1') (fun nf => ?_) p5 (by omega)
                  rw [L_go R1 hr, e4, e5, cv_s]
              · rw [if_neg (show ¬ tK τ q = 6 by omega), if_pos k7]
                have EO : ElOK F dd rl τ b n N jb D := (ih jb (by omega) (by omega)).el (by omega)
                obtain ⟨h5, e5, p5⟩ := ls_run (F := F) (dd := dd) (rl := rl) EO hr ht w hj12 hq b2 k7 hm (by omega) hF 101 h1 a1' [] (G D) f3 (by rw [szs_nil]; omega) (by simp)
                rw [szs_nil] at p5
                have sp : rdLs b τ (fun t a e m => rd b τ D t none a e m) q x0 m a e = fnG b (okC τ q) q e1' lo [] (rdL b τ (fun t a e m => rd b τ D t none a e m) q e1' lo 101 0 a1' (m + 1)) := by
                  unfold rdLs
                  rw [hen]
                  dsimp only
                  cases rdL b τ (fun t a e m => rd b τ D t none a e m) q e1' lo 101 0 a1' (m + 1) with
                  | none => rfl
                  | some z =>
                    obtain ⟨ks, a2⟩ := z
                    simp only [fnG, okC, List.length_nil, Nat.zero_add, List.nil_append, decide_eq_true_eq]
                    split
                    · cases lea b a2 e1' lo <;> rfl
                    · rfl
                rw [sp]
                refine RV.pre (k1 := 1) (h1 := h5) (c1 := a1') (fun nf => ?_) p5 (by omega)
                rw [L_go R1 hr, e5, cv_s]
          · rw [if_neg hm] at q1
            unfold rdIn
            rw [if_neg hm]
            exact RV.bad q1 (by omega)
        · have kl : tK τ q = 1 ∨ tK τ q = 2 ∨ tK τ q = 4 ∨ tK τ q = 5 := by omega
          obtain ⟨h1, e1, q1⟩ := lf_in (F := F) (d := dd) (t := t) (as := as) (of := of) S R T hlt hb ht0 hx1 he b2 kl hF D
          refine ⟨h1, e1, ?_⟩
          unfold rdIn
          rw [if_neg (show ¬ tK τ q = 6 by omega), if_neg (show ¬ tK τ q = 7 by omega)]
          cases hz : (if m < 100 then (rdLf b τ q x0 a e : Option (Vt (D + 1) × Nat)) else none) with
          | none => rw [hz] at q1; exact RV.bad q1 (by omega)
          | some z =>
            obtain ⟨v, a'⟩ := z
            rw [hz] at q1
            refine ⟨0, h1, fun _ => rfl, q1, ?_⟩
            by_cases hm : m < 100
            · rw [if_pos hm] at hz
              unfold rdLf at hz
              split at hz
              · split at hz
                · cases hz
                · cases hz
                · next y =>
                  split at hz
                  · cases hz
                  · cases hz; have := (lnR_le y).1; omega
              · cases hz
            · rw [if_neg hm] at hz; cases hz
end Em
