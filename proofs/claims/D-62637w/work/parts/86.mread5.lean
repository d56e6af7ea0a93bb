/-! THE MODEL READS (5): leaves, whole -/
set_option maxRecDepth 100000
section Lg
variable {F d fr m e n N j : Nat} {b : Nat → Nat} {τ : Tb}
/-- behind the loop: the number is set, and all is good -/
theorem lf_fin {h h2 h5 : Hp} {a1 a2 u u' q t as : Nat} {of val : Int32} (R : MR h2 a1 fr (m + 1) u e) (P : PtI h2 m t of as 0 u) (K : KM fr m u h h2) (I : INo u (sI h2 647 3000 (zI ↑a1)) h5) (h1 : gI h5 647 3000 = zI ↑a2) (h3 : gI h5 635 3000 = zI ↑u') (hu : u ≤ u' ∧ u' ≤ a2 ∧ a2 ≤ e) (h6 : Hp) (e6 : h6 = sI (sA h5 3022 m val) 649 3000 (zI ↑(1 : Nat)))
    {os : List Nat} (ho : ∀ (i x : Nat), os[i]? = some x → gA h5 3028 (u + i) = zI ↑x) (hl : u' = u + os.length) (d' : Nat) :
    LR τ t as of h h6 fr m u e (some ((mkV q val os [] : Vt (d' + 1)), a2)) := by
  obtain ⟨⟨r1, r2, r3, r4, r5⟩, r6, r7, r8, r9, r10⟩ := R
  obtain ⟨p1, p2, p3, p4, p5⟩ := P
  obtain ⟨i1, i2, i3⟩ := I
  have A : ∀ y i, ¬ (y = 3028 ∧ u ≤ i) → gA h5 y i = gA h2 y i := fun y i q => by rw [i3 y i q]; rfl
  have J : ∀ g, ¬ g = 647 → ¬ g = 635 → gI h5 g 3000 = gI h2 g 3000 := fun g q1 q2 => by rw [i2 g 3000 (by omega), gI_sI, if_neg (by omega)]
  have J2 : ∀ g y, ¬ y = 3000 → gI h5 g y = gI h2 g y := fun g y q1 => by rw [i2 g y (by omega), gI_sI, if_neg (by omega)]
  subst e6
  refine ⟨⟨⟨?_, ?_, ?_, ?_, ?_⟩, ?_, r7, ?_, ?_, hu.2.2⟩, ⟨⟨?_, ?_, ?_, ?_, ?_⟩, fun i x hx => ?_, trivial⟩, ?_⟩
  · rw [gI_sI, if_neg (by decide), gI_sA]; exact h1
  · rw [gI_sI, if_neg (by decide), gI_sA, J _ (by decide) (by decide)]; exact r2
  · rw [gI_sI, if_pos ⟨rfl, rfl⟩]
  · rw [gI_sI, if_neg (by decide), gI_sA, J _ (by decide) (by decide), sz_mk, szs_nil]; exact r4
  · rw [gI_sI, if_neg (by decide), gI_sA, oz_mk, ozs_nil, Nat.add_zero, ← hl]; exact h3
  · unfold BE at r6 ⊢
    rw [gI_sI, if_neg (show ¬ (628 = 649 ∧ 3000 = 3000) by decide), gI_sA, J _ (by decide) (by decide), gA_sI, gA_sA, if_neg (show ¬ (3032 = 3022 ∧ fr - 1 = m) by omega), A _ _ (by omega)]
    exact r6
  · rw [sz_mk, szs_nil]; exact r8
  · rw [oz_mk, ozs_nil, Nat.add_zero, ← hl]; exact hu.2.1
  · rw [gA_sI, gA_sA, if_neg (by omega), A _ _ (by omega)]; exact p1
  · rw [gA_sI, gA_sA, if_neg (by omega), A _ _ (by omega)]; exact p2
  · rw [gA_sI, gA_sA, if_neg (by omega), A _ _ (by omega)]; exact p3
  · rw [gA_sI, gA_sA, if_pos ⟨rfl, rfl⟩]; rfl
  · rw [gA_sI, gA_sA, if_neg (by omega), A _ _ (by omega)]; exact p5
  · rw [gA_sI, gA_sA, if_neg (by omega)]; exact ho i x hx
  · have K5 : KM fr m u h2 h5 := by
      refine ⟨⟨i1.1, i1.2.1, i1.2.2⟩, fun g y q => ?_, fun y i q => A y i (fun z => by rw [z.1] at q; revert q; decide), fun y i p q r => A y i (by omega), fun y i p q r => A y i (by omega), fun i q => A _ i (by omega)⟩
      by_cases c : y = 3000
      · subst c
        have c1 : ¬ g = 647 := fun z => q ⟨rfl, by rw [z]; decide⟩
        have c2 : ¬ g = 635 := fun z => q ⟨rfl, by rw [z]; decide⟩
        exact J g c1 c2
      · exact J2 g y c
    exact ((K.tr (Nat.le_refl _) (Nat.le_refl _) (Nat.le_refl _) K5).sA (by decide) (fun _ _ => by omega) (fun _ _ => Nat.le_refl _) (fun _ => by omega)).sI (by decide)
theorem in339_ok {h : Hp} {q p : Nat} {x : Int32} (M : MP h) (T : MT h τ N) (hq : q < N) (hb : gI h 623 3000 = zI ↑q) (hp : p < 100) (hx : gA h 3022 p = x) :
    fX6_inner_339 F d 3000 (zI ↑p) 3000 h = some (sI h 649 3000 (if tB τ q = true → inR x (tLo τ q) (tHi τ q) = true then zI ↑(1 : Nat) else zI ↑(0 : Nat))) := by
  have hN := T.1
  obtain ⟨⟨-, -, -, -, a5⟩, -, a7, -⟩ := T.2 q hq
  unfold fX6_inner_339 fX6_inner_382
  cases w : tB τ q with
  | false =>
    rw [w] at a5
    rw [if_pos (show false = true → inR x (tLo τ q) (tHi τ q) = true from fun z => by cases z)]
    simp (disch := omega) only [mp607, mp608, mp609, mp611, mp612, mp613, mp614, mp615, mp616, mp617, mp618, mp619, mp620, mp621, mp622, mp625, mp626, mp631, mp632, mp633, mp636, mp637, mp638, mp639, mp640, mp641, mp642, mp643, mp645, mp646, mp650, mp651, mp652, mp653, mp654, mp655, mp656, mp657, mp658, ln3001, ln3002, ln3003, ln3004, ln3005, ln3006, ln3007, ln3008, ln3009, ln3010, ln3011, ln3012, ln3013, ln3014, ln3015, ln3016, ln3017, ln3018, ln3019, ln3020, ln3021, ln3022, ln3023, ln3024, ln3025, ln3026, ln3027, ln3028, ln3029, ln3030, ln3031, ln3032, ln3033, ln3034, ln3035, ln3036, ln3037, ln3038, ln3039, ck_t, nn_s, bn_d, ca_s, cv_s, oc_n, oc_s, cx_i, cx_r, cy_i, cy_r, gI_sI, gI_sP, gI_sA, gI_sR, gI_sJ, gI_nw, gI_nx, gP_sI, gP_sP, gP_sA, gP_sR, gP_sJ, gP_nw, gP_nx, gA_sI, gA_sP, gA_sA, gA_sR, gA_sJ, gA_nw, gA_nx, gR_sI, gR_sP, gR_sA, gR_sR, gR_sJ, gR_nw, gR_nx, Nat.reduceEqDiff, or_self, or_true, true_or, or_false, false_or, eq_self, and_self, and_true, true_and, and_false, false_and, if_true, if_false, ↓reduceIte, ne_eq, not_true_eq_false, not_false_eq_true, zl0, zl1, zl2, zl3, zl4, zl5, zl6, zl7, zl8, zl9, zl10, zl12, zl15, zl16, zl20, zl31, zl32, zl48, zl97, zl99, zl100, zl120, zl127, zl128, zl129, zl130, zl137, zl150, zl160, zl169, zl254, zl255, zl256, zl4000, zl65535, zl65536, if_pos, if_neg, zn_inb, zn_cl, zn_eq, zn_lt, zn_le, zn_add, zn_sub, zn_mul, zn_addn, zn_eqn, zn_neq, zn_nlt, zn_nle, zn_ckb, isB_b2i, b2z0, b2z1, b2it, b2if, M.2, hb, a5]
  | true =>
    rw [w] at a5
    obtain ⟨l1, l2⟩ := a7 w
    cases w2 : inR x (tLo τ q) (tHi τ q) with
    | true =>
      rw [if_pos (show true = true → true = true from fun _ => rfl)]
      simp (disch := omega) only [mp607, mp608, mp609, mp611, mp612, mp613, mp614, mp615, mp616, mp617, mp618, mp619, mp620, mp621, mp622, mp625, mp626, mp631, mp632, mp633, mp636, mp637, mp638, mp639, mp640, mp641, mp642, mp643, mp645, mp646, mp650, mp651, mp652, mp653, mp654, mp655, mp656, mp657, mp658, ln3001, ln3002, ln3003, ln3004, ln3005, ln3006, ln3007, ln3008, ln3009, ln3010, ln3011, ln3012, ln3013, ln3014, ln3015, ln3016, ln3017, ln3018, ln3019, ln3020, ln3021, ln3022, ln3023, ln3024, ln3025, ln3026, ln3027, ln3028, ln3029, ln3030, ln3031, ln3032, ln3033, ln3034, ln3035, ln3036, ln3037, ln3038, ln3039, ck_t, nn_s, bn_d, ca_s, cv_s, oc_n, oc_s, cx_i, cx_r, cy_i, cy_r, gI_sI, gI_sP, gI_sA, gI_sR, gI_sJ, gI_nw, gI_nx, gP_sI, gP_sP, gP_sA, gP_sR, gP_sJ, gP_nw, gP_nx, gA_sI, gA_sP, gA_sA, gA_sR, gA_sJ, gA_nw, gA_nx, gR_sI, gR_sP, gR_sA, gR_sR, gR_sJ, gR_nw, gR_nx, Nat.reduceEqDiff, or_self, or_true, true_or, or_false, false_or, eq_self, and_self, and_true, true_and, and_false, false_and, if_true, if_false, ↓reduceIte, ne_eq, not_true_eq_false, not_false_eq_true, zl0, zl1, zl2, zl3, zl4, zl5, zl6, zl7, zl8, zl9, zl10, zl12, zl15, zl16, zl20, zl31, zl32, zl48, zl97, zl99, zl100, zl120, zl127, zl128, zl129, zl130, zl137, zl150, zl160, zl169, zl254, zl255, zl256, zl4000, zl65535, zl65536, if_pos, if_neg, zn_inb, zn_cl, zn_eq, zn_lt, zn_le, zn_add, zn_sub, zn_mul, zn_addn, zn_eqn, zn_neq, zn_nlt, zn_nle, zn_ckb, isB_b2i, b2z0, b2z1, b2it, b2if, M.2, hb, a5, l1, l2, hx, mem_ok, w2]
      rfl
    | false =>
      rw [if_neg (show ¬ (true = true → false = true) from fun z => by cases z rfl)]
      simp (disch := omega) only [mp607, mp608, mp609, mp611, mp612, mp613, mp614, mp615, mp616, mp617, mp618, mp619, mp620, mp621, mp622, mp625, mp626, mp631, mp632, mp633, mp636, mp637, mp638, mp639, mp640, mp641, mp642, mp643, mp645, mp646, mp650, mp651, mp652, mp653, mp654, mp655, mp656, mp657, mp658, ln3001, ln3002, ln3003, ln3004, ln3005, ln3006, ln3007, ln3008, ln3009, ln3010, ln3011, ln3012, ln3013, ln3014, ln3015, ln3016, ln3017, ln3018, ln3019, ln3020, ln3021, ln3022, ln3023, ln3024, ln3025, ln3026, ln3027, ln3028, ln3029, ln3030, ln3031, ln3032, ln3033, ln3034, ln3035, ln3036, ln3037, ln3038, ln3039, ck_t, nn_s, bn_d, ca_s, cv_s, oc_n, oc_s, cx_i, cx_r, cy_i, cy_r, gI_sI, gI_sP, gI_sA, gI_sR, gI_sJ, gI_nw, gI_nx, gP_sI, gP_sP, gP_sA, gP_sR, gP_sJ, gP_nw, gP_nx, gA_sI, gA_sP, gA_sA, gA_sR, gA_sJ, gA_nw, gA_nx, gR_sI, gR_sP, gR_sA, gR_sR, gR_sJ, gR_nw, gR_nx, Nat.reduceEqDiff, or_self, or_true, true_or, or_false, false_or, eq_self, and_self, and_true, true_and, and_false, false_and, if_true, if_false, ↓reduceIte, ne_eq, not_true_eq_false, not_false_eq_true, zl0, zl1, zl2, zl3, zl4, zl5, zl6, zl7, zl8, zl9, zl10, zl12, zl15, zl16, zl20, zl31, zl32, zl48, zl97, zl99, zl100, zl120, zl127, zl128, zl129, zl130, zl137, zl150, zl160, zl169, zl254, zl255, zl256, zl4000, zl65535, zl65536, if_pos, if_neg, zn_inb, zn_cl, zn_eq, zn_lt, zn_le, zn_add, zn_sub, zn_mul, zn_addn, zn_eqn, zn_neq, zn_nlt, zn_nle, zn_ckb, isB_b2i, b2z0, b2z1, b2it, b2if, M.2, hb, a5, l1, l2, hx, mem_ok, w2]
theorem lf_in {h : Hp} {a u q x0 t as : Nat} {of : Int32} (S : MSrc h b n) (R : MR h a fr m u e) (T : MT h τ N) (hq : q < N) (hb : gI h 623 3000 = zI ↑q) (ht : gA h 3016 0 = zI ↑x0) (hx0 : x0 < 256) (he : e ≤ n) (w : WFt τ (j + 1) q) (k : tK τ q = 1 ∨ tK τ q = 2 ∨ tK τ q = 4 ∨ tK τ q = 5) (hF : 1000 ≤ F) (d' : Nat) :
    ∃ h1, fX6_inner F d 3000 (zI ↑t) of (zI ↑as) h = some h1 ∧ LR τ t as of h h1 fr m u e (if m < 100 then (rdLf b τ q x0 a e : Option (Vt (d' + 1) × Nat)) else none) := by
  have hn := S.2.2.1
  have hN := T.1
  obtain ⟨H1, H2⟩ := in_hd (F := F) (d := d) (t := t) (as := as) (of := of) S R T hq hb ht hx0 he (by omega)
  by_cases C : m < 100 ∧ a < e ∧ b a = x0
  · obtain ⟨h2, e2, R2, P2, K2, b2⟩ := H1 C
    rw [e2, if_pos C.1]
    unfold rdLf
    rw [if_pos ⟨C.2.1, C.2.2⟩]
    have S2 := K2.ms S
    have T2 := K2.mt T
    have E48 : fX6_inner_48 F d 3000 (zI ↑(tK τ q)) (zI ↑m) h2 = ca (fX6_length F d 3000 (b2i false) h2) fun v4 h3 => fX6_inner_110 F d 3000 (zI ↑(tK τ q)) (zI ↑m) (zI ↑(0 : Nat)) v4 h3 := by
      unfold fX6_inner_48 fX6_inner_64 fX6_inner_69 fX6_inner_89
      simp (disch := omega) only [mp607, mp608, mp609, mp611, mp612, mp613, mp614, mp615, mp616, mp617, mp618, mp619, mp620, mp621, mp622, mp625, mp626, mp631, mp632, mp633, mp636, mp637, mp638, mp639, mp640, mp641, mp642, mp643, mp645, mp646, mp650, mp651, mp652, mp653, mp654, mp655, mp656, mp657, mp658, ln3001, ln3002, ln3003, ln3004, ln3005, ln3006, ln3007, ln3008, ln3009, ln3010, ln3011, ln3012, ln3013, ln3014, ln3015, ln3016, ln3017, ln3018, ln3019, ln3020, ln3021, ln3022, ln3023, ln3024, ln3025, ln3026, ln3027, ln3028, ln3029, ln3030, ln3031, ln3032, ln3033, ln3034, ln3035, ln3036, ln3037, ln3038, ln3039, ck_t, nn_s, bn_d, ca_s, cv_s, oc_n, oc_s, cx_i, cx_r, cy_i, cy_r, gI_sI, gI_sP, gI_sA, gI_sR, gI_sJ, gI_nw, gI_nx, gP_sI, gP_sP, gP_sA, gP_sR, gP_sJ, gP_nw, gP_nx, gA_sI, gA_sP, gA_sA, gA_sR, gA_sJ, gA_nw, gA_nx, gR_sI, gR_sP, gR_sA, gR_sR, gR_sJ, gR_nw, gR_nx, Nat.reduceEqDiff, or_self, or_true, true_or, or_false, false_or, eq_self, and_self, and_true, true_and, and_false, false_and, if_true, if_false, ↓reduceIte, ne_eq, not_true_eq_false, not_false_eq_true, zl0, zl1, zl2, zl3, zl4, zl5, zl6, zl7, zl8, zl9, zl10, zl12, zl15, zl16, zl20, zl31, zl32, zl48, zl97, zl99, zl100, zl120, zl127, zl128, zl129, zl130, zl137, zl150, zl160, zl169, zl254, zl255, zl256, zl4000, zl65535, zl65536, if_pos, if_neg, zn_inb, zn_cl, zn_eq, zn_lt, zn_le, zn_add, zn_sub, zn_mul, zn_addn, zn_eqn, zn_neq, zn_nlt, zn_nle, zn_ckb, isB_b2i, b2z0, b2z1, b2it, b2if, R2.1.2.2.1]
    rw [E48]
    obtain ⟨v, h3, e3, q3⟩ := mlen_ok (F := F) (d := d) S2 R2 he false
    rw [e3, ca_s]
    cases hl : lnR b (a + 1) e false with
    | none =>
      rw [hl] at q3
      obtain ⟨q3, a', B⟩ := q3
      obtain ⟨h4, e4, B4⟩ := in110_b (F := F) (d := d) (x4 := zI ↑(tK τ q)) (x5 := zI ↑m) (x6 := zI ↑(0 : Nat)) (s0 := v) B.2.2.2.1
      exact ⟨h4, e4, B4⟩
    | some wl =>
      obtain ⟨w1, a1⟩ := wl
      cases w1 with
      | none => exact (lnR_f hl).elim
      | some len =>
        rw [hl] at q3
        obtain ⟨q3, q4⟩ := q3
        obtain ⟨le1, le2⟩ := lnR_le hl
        simp only [Option.getD] at le2
        subst q3
        subst q4
        have R3 := R2.at (x := a1) (by have := R.2.2.2.2.1; omega) (by omega)
        have S3 : MSrc (sI h2 647 3000 (zI ↑a1)) b n := S2.at (by decide)
        have T3 : MT (sI h2 647 3000 (zI ↑a1)) τ N := T2.fr fun y i _ _ => rfl
        have ua : u ≤ a := R.2.2.2.2.1
        have bad : ∀ hh : Hp, ∃ h1, fX6_inner_151 F d 3000 (zI ↑(tK τ q)) (zI ↑m) (zI ↑(0 : Nat)) (zI ↑len) hh = some h1 ∧ LR τ t as of h h1 fr m u e (none : Option (Vt (d' + 1) × Nat)) := fun hh => in151_b
        show ∃ h1, fX6_inner_110 F d 3000 (zI ↑(tK τ q)) (zI ↑m) (zI ↑(0 : Nat)) (zI ↑len) (sI h2 647 3000 (zI ↑a1)) = some h1 ∧ LR τ t as of h h1 fr m u e (match leaf b τ q a1 len with | none => none | some (x, o) => some ((mkV q x o [] : Vt (d' + 1)), a1 + len))
        -- behind the loop
        have LP : ∀ (K : Nat) (v0 : Int32), tK τ q = K → (K = 1 ∨ K = 2 ∨ K = 4) → ∀ val : Int32, val = (if K = 2 then ivS v0 (byL b a1 len) else if K = 4 then zI ↑len else if ivS v0 (byL b a1 len) ≤ 0 then 0 else 1) →
            ∃ h5, fX6_inner_200 F d 3000 (zI ↑K) (zI ↑m) (zI ↑len) v0 (sI h2 647 3000 (zI ↑a1)) = (if K = 2 ∧ ¬ byO (ivS v0 (byL b a1 len)) = len then some (sI (sA h5 3022 m val) 649 3000 (zI ↑(0 : Nat))) else some (sI (sA h5 3022 m val) 649 3000 (if tB τ q = true → inR val (tLo τ q) (tHi τ q) = true then zI ↑(1 : Nat) else zI ↑(0 : Nat)))) ∧
              gI h5 647 3000 = zI ↑(a1 + len) ∧ gI h5 635 3000 = zI ↑(u + if K = 4 then len else 0) ∧ (K = 4 → ∀ i, i < len → gA h5 3028 (u + i) = zI ↑(b (a1 + i))) ∧ INo u (sI h2 647 3000 (zI ↑a1)) h5 := by
          intro K v0 hk hK val hval
          obtain ⟨h5, e5, o1, o2, o3, I5⟩ := in_lp (F := F) (d := d) (n := n) (b := b) (K := K) (len := len) (p := zI ↑m) (by omega) hK len 0 F v0 (sI h2 647 3000 (zI ↑a1)) a1 u S3 R3.1.1 R3.1.2.2.2.2 (by omega) (by omega) (by omega) (by omega)
          refine ⟨h5, ?_, o1, o2, o3, I5⟩
          unfold fX6_inner_200
          rw [zl0, e5]
          have M5 : MP h5 := by unfold MP; rw [I5.1.1, I5.1.2.1]; exact S3.1
          have T5 : MT h5 τ N := T3.fr fun y i _ _ => I5.2.2 y i (by omega)
          have b5 : gI h5 623 3000 = zI ↑q := by rw [I5.2.1 _ _ (by omega), gI_sI, if_neg (by decide)]; exact b2
          generalize hv : ivS v0 (byL b a1 len) = vv at *
          have i339 := in339_ok (F := F) (d := d) (x := val) (h := sA h5 3022 m val) (q := q) (p := m) M5 (T5.fr fun y i _ _ => by rw [gA_sA, if_neg (by omega)]) hq b5 C.1 (by rw [gA_sA, if_pos ⟨rfl, rfl⟩])
          have bl := byO_le vv
          rw [fX6_inner_205]
          unfold fX6_inner_321
          rcases hK with z | z | z
          · subst z
            rw [if_neg (show ¬ (1 = 2 ∧ ¬ byO vv = len) by omega)]
            rw [if_neg (by omega), if_neg (by omega)] at hval
            by_cases c0 : vv ≤ zI ↑(0 : Nat)
            · rw [if_pos (show vv ≤ 0 from c0)] at hval
              subst hval
              simp (disch := omega) only [mp607, mp608, mp609, mp611, mp612, mp613, mp614, mp615, mp616, mp617, mp618, mp619, mp620, mp621, mp622, mp625, mp626, mp631, mp632, mp633, mp636, mp637, mp638, mp639, mp640, mp641, mp642, mp643, mp645, mp646, mp650, mp651, mp652, mp653, mp654, mp655, mp656, mp657, mp658, ln3001, ln3002, ln3003, ln3004, ln3005, ln3006, ln3007, ln3008, ln3009, ln3010, ln3011, ln3012, ln3013, ln3014, ln3015, ln3016, ln3017, ln3018, ln3019, ln3020, ln3021, ln3022, ln3023, ln3024, ln3025, ln3026, ln3027, ln3028, ln3029, ln3030, ln3031, ln3032, ln3033, ln3034, ln3035, ln3036, ln3037, ln3038, ln3039, ck_t, nn_s, bn_d, ca_s, cv_s, oc_n, oc_s, cx_i, cx_r, cy_i, cy_r, gI_sI, gI_sP, gI_sA, gI_sR, gI_sJ, gI_nw, gI_nx, gP_sI, gP_sP, gP_sA, gP_sR, gP_sJ, gP_nw, gP_nx, gA_sI, gA_sP, gA_sA, gA_sR, gA_sJ, gA_nw, gA_nx, gR_sI, gR_sP, gR_sA, gR_sR, gR_sJ, gR_nw, gR_nx, Nat.reduceEqDiff, or_self, or_true, true_or, or_false, false_or, eq_self, and_self, and_true, true_and, and_false, false_and, if_true, if_false, ↓reduceIte, ne_eq, not_true_eq_false, not_false_eq_true, zl0, zl1, zl2, zl3, zl4, zl5, zl6, zl7, zl8, zl9, zl10, zl12, zl15, zl16, zl20, zl31, zl32, zl48, zl97, zl99, zl100, zl120, zl127, zl128, zl129, zl130, zl137, zl150, zl160, zl169, zl254, zl255, zl256, zl4000, zl65535, zl65536, if_pos, if_neg, zn_inb, zn_cl, zn_eq, zn_lt, zn_le, zn_add, zn_sub, zn_mul, zn_addn, zn_eqn, zn_neq, zn_nlt, zn_nle, zn_ckb, isB_b2i, b2z0, b2z1, b2it, b2if, M5.2, c0] at i339 ⊢
              exact i339
            · rw [if_neg (show ¬ vv ≤ 0 from c0)] at hval
              subst hval
              simp (disch := omega) only [mp607, mp608, mp609, mp611, mp612, mp613, mp614, mp615, mp616, mp617, mp618, mp619, mp620, mp621, mp622, mp625, mp626, mp631, mp632, mp633, mp636, mp637, mp638, mp639, mp640, mp641, mp642, mp643, mp645, mp646, mp650, mp651, mp652, mp653, mp654, mp655, mp656, mp657, mp658, ln3001, ln3002, ln3003, ln3004, ln3005, ln3006, ln3007, ln3008, ln3009, ln3010, ln3011, ln3012, ln3013, ln3014, ln3015, ln3016, ln3017, ln3018, ln3019, ln3020, ln3021, ln3022, ln3023, ln3024, ln3025, ln3026, ln3027, ln3028, ln3029, ln3030, ln3031, ln3032, ln3033, ln3034, ln3035, ln3036, ln3037, ln3038, ln3039, ck_t, nn_s, bn_d, ca_s, cv_s, oc_n, oc_s, cx_i, cx_r, cy_i, cy_r, gI_sI, gI_sP, gI_sA, gI_sR, gI_sJ, gI_nw, gI_nx, gP_sI, gP_sP, gP_sA, gP_sR, gP_sJ, gP_nw, gP_nx, gA_sI, gA_sP, gA_sA, gA_sR, gA_sJ, gA_nw, gA_nx, gR_sI, gR_sP, gR_sA, gR_sR, gR_sJ, gR_nw, gR_nx, Nat.reduceEqDiff, or_self, or_true, true_or, or_false, false_or, eq_self, and_self, and_true, true_and, and_false, false_and, if_true, if_false, ↓reduceIte, ne_eq, not_true_eq_false, not_false_eq_true, zl0, zl1, zl2, zl3, zl4, zl5, zl6, zl7, zl8, zl9, zl10, zl12, zl15, zl16, zl20, zl31, zl32, zl48, zl97, zl99, zl100, zl120, zl127, zl128, zl129, zl130, zl137, zl150, zl160, zl169, zl254, zl255, zl256, zl4000, zl65535, zl65536, if_pos, if_neg, zn_inb, zn_cl, zn_eq, zn_lt, zn_le, zn_add, zn_sub, zn_mul, zn_addn, zn_eqn, zn_neq, zn_nlt, zn_nle, zn_ckb, isB_b2i, b2z0, b2z1, b2it, b2if, M5.2, c0] at i339 ⊢
              exact i339
          · subst z
            rw [if_pos rfl] at hval
            subst hval
            by_cases c1 : byO val = len
            · rw [if_neg (show ¬ (2 = 2 ∧ ¬ byO val = len) from fun z => z.2 c1)]
              simp (disch := omega) only [mp607, mp608, mp609, mp611, mp612, mp613, mp614, mp615, mp616, mp617, mp618, mp619, mp620, mp621, mp622, mp625, mp626, mp631, mp632, mp633, mp636, mp637, mp638, mp639, mp640, mp641, mp642, mp643, mp645, mp646, mp650, mp651, mp652, mp653, mp654, mp655, mp656, mp657, mp658, ln3001, ln3002, ln3003, ln3004, ln3005, ln3006, ln3007, ln3008, ln3009, ln3010, ln3011, ln3012, ln3013, ln3014, ln3015, ln3016, ln3017, ln3018, ln3019, ln3020, ln3021, ln3022, ln3023, ln3024, ln3025, ln3026, ln3027, ln3028, ln3029, ln3030, ln3031, ln3032, ln3033, ln3034, ln3035, ln3036, ln3037, ln3038, ln3039, ck_t, nn_s, bn_d, ca_s, cv_s, oc_n, oc_s, cx_i, cx_r, cy_i, cy_r, gI_sI, gI_sP, gI_sA, gI_sR, gI_sJ, gI_nw, gI_nx, gP_sI, gP_sP, gP_sA, gP_sR, gP_sJ, gP_nw, gP_nx, gA_sI, gA_sP, gA_sA, gA_sR, gA_sJ, gA_nw, gA_nx, gR_sI, gR_sP, gR_sA, gR_sR, gR_sJ, gR_nw, gR_nx, Nat.reduceEqDiff, or_self, or_true, true_or, or_false, false_or, eq_self, and_self, and_true, true_and, and_false, false_and, if_true, if_false, ↓reduceIte, ne_eq, not_true_eq_false, not_false_eq_true, zl0, zl1, zl2, zl3, zl4, zl5, zl6, zl7, zl8, zl9, zl10, zl12, zl15, zl16, zl20, zl31, zl32, zl48, zl97, zl99, zl100, zl120, zl127, zl128, zl129, zl130, zl137, zl150, zl160, zl169, zl254, zl255, zl256, zl4000, zl65535, zl65536, if_pos, if_neg, zn_inb, zn_cl, zn_eq, zn_lt, zn_le, zn_add, zn_sub, zn_mul, zn_addn, zn_eqn, zn_neq, zn_nlt, zn_nle, zn_ckb, isB_b2i, b2z0, b2z1, b2it, b2if, M5.2, mbyO_ok] at i339 ⊢
              exact i339
            · rw [if_pos (show 2 = 2 ∧ ¬ byO val = len from ⟨rfl, c1⟩)]
              simp (disch := omega) only [mp607, mp608, mp609, mp611, mp612, mp613, mp614, mp615, mp616, mp617, mp618, mp619, mp620, mp621, mp622, mp625, mp626, mp631, mp632, mp633, mp636, mp637, mp638, mp639, mp640, mp641, mp642, mp643, mp645, mp646, mp650, mp651, mp652, mp653, mp654, mp655, mp656, mp657, mp658, ln3001, ln3002, ln3003, ln3004, ln3005, ln3006, ln3007, ln3008, ln3009, ln3010, ln3011, ln3012, ln3013, ln3014, ln3015, ln3016, ln3017, ln3018, ln3019, ln3020, ln3021, ln3022, ln3023, ln3024, ln3025, ln3026, ln3027, ln3028, ln3029, ln3030, ln3031, ln3032, ln3033, ln3034, ln3035, ln3036, ln3037, ln3038, ln3039, ck_t, nn_s, bn_d, ca_s, cv_s, oc_n, oc_s, cx_i, cx_r, cy_i, cy_r, gI_sI, gI_sP, gI_sA, gI_sR, gI_sJ, gI_nw, gI_nx, gP_sI, gP_sP, gP_sA, gP_sR, gP_sJ, gP_nw, gP_nx, gA_sI, gA_sP, gA_sA, gA_sR, gA_sJ, gA_nw, gA_nx, gR_sI, gR_sP, gR_sA, gR_sR, gR_sJ, gR_nw, gR_nx, Nat.reduceEqDiff, or_self, or_true, true_or, or_false, false_or, eq_self, and_self, and_true, true_and, and_false, false_and, if_true, if_false, ↓reduceIte, ne_eq, not_true_eq_false, not_false_eq_true, zl0, zl1, zl2, zl3, zl4, zl5, zl6, zl7, zl8, zl9, zl10, zl12, zl15, zl16, zl20, zl31, zl32, zl48, zl97, zl99, zl100, zl120, zl127, zl128, zl129, zl130, zl137, zl150, zl160, zl169, zl254, zl255, zl256, zl4000, zl65535, zl65536, if_pos, if_neg, zn_inb, zn_cl, zn_eq, zn_lt, zn_le, zn_add, zn_sub, zn_mul, zn_addn, zn_eqn, zn_neq, zn_nlt, zn_nle, zn_ckb, isB_b2i, b2z0, b2z1, b2it, b2if, M5.2, mbyO_ok]
          · subst z
            rw [if_neg (by omega), if_pos rfl] at hval
            subst hval
            rw [if_neg (show ¬ (4 = 2 ∧ ¬ byO vv = len) by omega)]
            simp (disch := omega) only [mp607, mp608, mp609, mp611, mp612, mp613, mp614, mp615, mp616, mp617, mp618, mp619, mp620, mp621, mp622, mp625, mp626, mp631, mp632, mp633, mp636, mp637, mp638, mp639, mp640, mp641, mp642, mp643, mp645, mp646, mp650, mp651, mp652, mp653, mp654, mp655, mp656, mp657, mp658, ln3001, ln3002, ln3003, ln3004, ln3005, ln3006, ln3007, ln3008, ln3009, ln3010, ln3011, ln3012, ln3013, ln3014, ln3015, ln3016, ln3017, ln3018, ln3019, ln3020, ln3021, ln3022, ln3023, ln3024, ln3025, ln3026, ln3027, ln3028, ln3029, ln3030, ln3031, ln3032, ln3033, ln3034, ln3035, ln3036, ln3037, ln3038, ln3039, ck_t, nn_s, bn_d, ca_s, cv_s, oc_n, oc_s, cx_i, cx_r, cy_i, cy_r, gI_sI, gI_sP, gI_sA, gI_sR, gI_sJ, gI_nw, gI_nx, gP_sI, gP_sP, gP_sA, gP_sR, gP_sJ, gP_nw, gP_nx, gA_sI, gA_sP, gA_sA, gA_sR, gA_sJ, gA_nw, gA_nx, gR_sI, gR_sP, gR_sA, gR_sR, gR_sJ, gR_nw, gR_nx, Nat.reduceEqDiff, or_self, or_true, true_or, or_false, false_or, eq_self, and_self, and_true, true_and, and_false, false_and, if_true, if_false, ↓reduceIte, ne_eq, not_true_eq_false, not_false_eq_true, zl0, zl1, zl2, zl3, zl4, zl5, zl6, zl7, zl8, zl9, zl10, zl12, zl15, zl16, zl20, zl31, zl32, zl48, zl97, zl99, zl100, zl120, zl127, zl128, zl129, zl130, zl137, zl150, zl160, zl169, zl254, zl255, zl256, zl4000, zl65535, zl65536, if_pos, if_neg, zn_inb, zn_cl, zn_eq, zn_lt, zn_le, zn_add, zn_sub, zn_mul, zn_addn, zn_eqn, zn_neq, zn_nlt, zn_nle, zn_ckb, isB_b2i, b2z0, b2z1, b2it, b2if, M5.2] at i339 ⊢
            exact i339
        rcases k with k | k | k | k
        · have L : leaf b τ q a1 len = if len = 1 then some (if b a1 = 0 then 0 else 1, []) else none := by
            unfold leaf; rw [if_neg (show ¬ tK τ q = 5 by omega), if_pos k]
          have tb : tB τ q = false := by
            rcases w with ⟨k2, -, w1⟩ | ⟨k2, -⟩ | ⟨k2, -⟩ | ⟨k2, -⟩ | ⟨k2, -⟩ | ⟨k2, -⟩ | ⟨k2, -⟩ | ⟨k2, -⟩ <;> first | (exfalso; omega) | exact w1
          rw [L]
          by_cases c1 : len = 1
          · subst c1
            rw [if_pos rfl]
            have hb1 := (S.2.2.2 a1 (by omega)).2
            have iv : ivS (zI ↑(0 : Nat)) (byL b a1 1) = zI ↑(b a1) := by
              show ((zI ↑(0 : Nat) <<< 8) ||| Int32.ofNat (b (a1 + 0))) = _
              rw [show (zI ↑(0 : Nat) : Int32) <<< 8 = 0 by decide, Nat.add_zero, zI_nat, Int32.zero_or]
            have E : fX6_inner_110 F d 3000 (zI ↑(tK τ q)) (zI ↑m) (zI ↑(0 : Nat)) (zI ↑(1 : Nat)) (sI h2 647 3000 (zI ↑a1)) = fX6_inner_200 F d 3000 (zI ↑(1 : Nat)) (zI ↑m) (zI ↑(1 : Nat)) (zI ↑(0 : Nat)) (sI h2 647 3000 (zI ↑a1)) := by
              unfold fX6_inner_110 fX6_inner_123 fX6_inner_135 fX6_inner_156 fX6_inner_199
              simp (disch := omega) only [mp607, mp608, mp609, mp611, mp612, mp613, mp614, mp615, mp616, mp617, mp618, mp619, mp620, mp621, mp622, mp625, mp626, mp631, mp632, mp633, mp636, mp637, mp638, mp639, mp640, mp641, mp642, mp643, mp645, mp646, mp650, mp651, mp652, mp653, mp654, mp655, mp656, mp657, mp658, ln3001, ln3002, ln3003, ln3004, ln3005, ln3006, ln3007, ln3008, ln3009, ln3010, ln3011, ln3012, ln3013, ln3014, ln3015, ln3016, ln3017, ln3018, ln3019, ln3020, ln3021, ln3022, ln3023, ln3024, ln3025, ln3026, ln3027, ln3028, ln3029, ln3030, ln3031, ln3032, ln3033, ln3034, ln3035, ln3036, ln3037, ln3038, ln3039, ck_t, nn_s, bn_d, ca_s, cv_s, oc_n, oc_s, cx_i, cx_r, cy_i, cy_r, gI_sI, gI_sP, gI_sA, gI_sR, gI_sJ, gI_nw, gI_nx, gP_sI, gP_sP, gP_sA, gP_sR, gP_sJ, gP_nw, gP_nx, gA_sI, gA_sP, gA_sA, gA_sR, gA_sJ, gA_nw, gA_nx, gR_sI, gR_sP, gR_sA, gR_sR, gR_sJ, gR_nw, gR_nx, Nat.reduceEqDiff, or_self, or_true, true_or, or_false, false_or, eq_self, and_self, and_true, true_and, and_false, false_and, if_true, if_false, ↓reduceIte, ne_eq, not_true_eq_false, not_false_eq_true, zl0, zl1, zl2, zl3, zl4, zl5, zl6, zl7, zl8, zl9, zl10, zl12, zl15, zl16, zl20, zl31, zl32, zl48, zl97, zl99, zl100, zl120, zl127, zl128, zl129, zl130, zl137, zl150, zl160, zl169, zl254, zl255, zl256, zl4000, zl65535, zl65536, if_pos, if_neg, zn_inb, zn_cl, zn_eq, zn_lt, zn_le, zn_add, zn_sub, zn_mul, zn_addn, zn_eqn, zn_neq, zn_nlt, zn_nle, zn_ckb, isB_b2i, b2z0, b2z1, b2it, b2if, k, R2.1.2.2.1]
            obtain ⟨h5, e5, o1, o2, o3, I5⟩ := LP 1 (zI ↑(0 : Nat)) k (by omega) _ rfl
            rw [if_neg (show ¬ (1 = 2 ∧ ¬ byO (ivS (zI ↑(0 : Nat)) (byL b a1 1)) = 1) by omega), if_neg (show ¬ 1 = 2 by omega), if_neg (show ¬ 1 = 4 by omega), iv, tb, if_pos (show false = true → inR (if zI ↑(b a1) ≤ 0 then 0 else 1) (tLo τ q) (tHi τ q) = true from fun z => by cases z)] at e5
            have vl : (if zI ↑(b a1) ≤ (0 : Int32) then (0 : Int32) else 1) = if b a1 = 0 then 0 else 1 := by
              by_cases z : b a1 = 0
              · rw [if_pos z, z]; rfl
              · rw [if_neg z, if_neg (fun y => by have := (zn_le (b := 0) (by omega) (by omega)).mp y; omega)]
            rw [vl] at e5
            rw [E, e5]
            rw [if_neg (show ¬ 1 = 4 by omega)] at o2
            exact ⟨_, rfl, lf_fin (R2.at (x := a1) (by omega) (by omega)) P2 (K2.sI (by decide)) (by rw [sI_sI]; exact I5) o1 o2 ⟨by omega, by omega, by omega⟩ _ rfl (os := []) (fun i x hx => by cases hx) rfl d'⟩
          · rw [if_neg c1]
            unfold fX6_inner_110 fX6_inner_123
            simp (disch := omega) only [mp607, mp608, mp609, mp611, mp612, mp613, mp614, mp615, mp616, mp617, mp618, mp619, mp620, mp621, mp622, mp625, mp626, mp631, mp632, mp633, mp636, mp637, mp638, mp639, mp640, mp641, mp642, mp643, mp645, mp646, mp650, mp651, mp652, mp653, mp654, mp655, mp656, mp657, mp658, ln3001, ln3002, ln3003, ln3004, ln3005, ln3006, ln3007, ln3008, ln3009, ln3010, ln3011, ln3012, ln3013, ln3014, ln3015, ln3016, ln3017, ln3018, ln3019, ln3020, ln3021, ln3022, ln3023, ln3024, ln3025, ln3026, ln3027, ln3028, ln3029, ln3030, ln3031, ln3032, ln3033, ln3034, ln3035, ln3036, ln3037, ln3038, ln3039, ck_t, nn_s, bn_d, ca_s, cv_s, oc_n, oc_s, cx_i, cx_r, cy_i, cy_r, gI_sI, gI_sP, gI_sA, gI_sR, gI_sJ, gI_nw, gI_nx, gP_sI, gP_sP, gP_sA, gP_sR, gP_sJ, gP_nw, gP_nx, gA_sI, gA_sP, gA_sA, gA_sR, gA_sJ, gA_nw, gA_nx, gR_sI, gR_sP, gR_sA, gR_sR, gR_sJ, gR_nw, gR_nx, Nat.reduceEqDiff, or_self, or_true, true_or, or_false, false_or, eq_self, and_self, and_true, true_and, and_false, false_and, if_true, if_false, ↓reduceIte, ne_eq, not_true_eq_false, not_false_eq_true, zl0, zl1, zl2, zl3, zl4, zl5, zl6, zl7, zl8, zl9, zl10, zl12, zl15, zl16, zl20, zl31, zl32, zl48, zl97, zl99, zl100, zl120, zl127, zl128, zl129, zl130, zl137, zl150, zl160, zl169, zl254, zl255, zl256, zl4000, zl65535, zl65536, if_pos, if_neg, zn_inb, zn_cl, zn_eq, zn_lt, zn_le, zn_add, zn_sub, zn_mul, zn_addn, zn_eqn, zn_neq, zn_nlt, zn_nle, zn_ckb, isB_b2i, b2z0, b2z1, b2it, b2if, k]
            have := bad (sI h2 647 3000 (zI ↑a1))
            rw [k] at this
            exact this
        · have L : leaf b τ q a1 len = if (1 ≤ len ∧ len ≤ 4) ∧ byO (ivL (byL b a1 len)) = len ∧ (tB τ q = true → inR (ivL (byL b a1 len)) (tLo τ q) (tHi τ q) = true) then some (ivL (byL b a1 len), []) else none := by
            unfold leaf; rw [if_neg (show ¬ tK τ q = 5 by omega), if_neg (show ¬ tK τ q = 1 by omega), if_pos k]
          rw [L]
          by_cases c1 : 1 ≤ len ∧ len ≤ 4
          · obtain ⟨s1, hb1⟩ := S3.2.2.2 a1 (by omega)
            have iv : ivS (if 127 < b a1 then -1 else 0) (byL b a1 len) = ivL (byL b a1 len) := by
              obtain ⟨r, rfl⟩ : ∃ r, len = r + 1 := ⟨len - 1, by omega⟩
              rw [byL_s]; rfl
            have E : fX6_inner_110 F d 3000 (zI ↑(tK τ q)) (zI ↑m) (zI ↑(0 : Nat)) (zI ↑len) (sI h2 647 3000 (zI ↑a1)) = fX6_inner_200 F d 3000 (zI ↑(2 : Nat)) (zI ↑m) (zI ↑len) (if 127 < b a1 then -1 else 0) (sI h2 647 3000 (zI ↑a1)) := by
              have s1' : gA h2 3019 a1 = zI ↑(b a1) := s1
              unfold fX6_inner_110 fX6_inner_123 fX6_inner_135 fX6_inner_156 fX6_inner_199
              by_cases c2 : 127 < b a1
              · simp (disch := omega) only [mp607, mp608, mp609, mp611, mp612, mp613, mp614, mp615, mp616, mp617, mp618, mp619, mp620, mp621, mp622, mp625, mp626, mp631, mp632, mp633, mp636, mp637, mp638, mp639, mp640, mp641, mp642, mp643, mp645, mp646, mp650, mp651, mp652, mp653, mp654, mp655, mp656, mp657, mp658, ln3001, ln3002, ln3003, ln3004, ln3005, ln3006, ln3007, ln3008, ln3009, ln3010, ln3011, ln3012, ln3013, ln3014, ln3015, ln3016, ln3017, ln3018, ln3019, ln3020, ln3021, ln3022, ln3023, ln3024, ln3025, ln3026, ln3027, ln3028, ln3029, ln3030, ln3031, ln3032, ln3033, ln3034, ln3035, ln3036, ln3037, ln3038, ln3039, ck_t, nn_s, bn_d, ca_s, cv_s, oc_n, oc_s, cx_i, cx_r, cy_i, cy_r, gI_sI, gI_sP, gI_sA, gI_sR, gI_sJ, gI_nw, gI_nx, gP_sI, gP_sP, gP_sA, gP_sR, gP_sJ, gP_nw, gP_nx, gA_sI, gA_sP, gA_sA, gA_sR, gA_sJ, gA_nw, gA_nx, gR_sI, gR_sP, gR_sA, gR_sR, gR_sJ, gR_nw, gR_nx, Nat.reduceEqDiff, or_self, or_true, true_or, or_false, false_or, eq_self, and_self, and_true, true_and, and_false, false_and, if_true, if_false, ↓reduceIte, ne_eq, not_true_eq_false, not_false_eq_true, zl0, zl1, zl2, zl3, zl4, zl5, zl6, zl7, zl8, zl9, zl10, zl12, zl15, zl16, zl20, zl31, zl32, zl48, zl97, zl99, zl100, zl120, zl127, zl128, zl129, zl130, zl137, zl150, zl160, zl169, zl254, zl255, zl256, zl4000, zl65535, zl65536, if_pos, if_neg, zn_inb, zn_cl, zn_eq, zn_lt, zn_le, zn_add, zn_sub, zn_mul, zn_addn, zn_eqn, zn_neq, zn_nlt, zn_nle, zn_ckb, isB_b2i, b2z0, b2z1, b2it, b2if, k, S2.1.2, mem_ok, inR_out, decide_true, c1, R2.1.2.2.1, s1']
              · simp (disch := omega) only [mp607, mp608, mp609, mp611, mp612, mp613, mp614, mp615, mp616, mp617, mp618, mp619, mp620, mp621, mp622, mp625, mp626, mp631, mp632, mp633, mp636, mp637, mp638, mp639, mp640, mp641, mp642, mp643, mp645, mp646, mp650, mp651, mp652, mp653, mp654, mp655, mp656, mp657, mp658, ln3001, ln3002, ln3003, ln3004, ln3005, ln3006, ln3007, ln3008, ln3009, ln3010, ln3011, ln3012, ln3013, ln3014, ln3015, ln3016, ln3017, ln3018, ln3019, ln3020, ln3021, ln3022, ln3023, ln3024, ln3025, ln3026, ln3027, ln3028, ln3029, ln3030, ln3031, ln3032, ln3033, ln3034, ln3035, ln3036, ln3037, ln3038, ln3039, ck_t, nn_s, bn_d, ca_s, cv_s, oc_n, oc_s, cx_i, cx_r, cy_i, cy_r, gI_sI, gI_sP, gI_sA, gI_sR, gI_sJ, gI_nw, gI_nx, gP_sI, gP_sP, gP_sA, gP_sR, gP_sJ, gP_nw, gP_nx, gA_sI, gA_sP, gA_sA, gA_sR, gA_sJ, gA_nw, gA_nx, gR_sI, gR_sP, gR_sA, gR_sR, gR_sJ, gR_nw, gR_nx, Nat.reduceEqDiff, or_self, or_true, true_or, or_false, false_or, eq_self, and_self, and_true, true_and, and_false, false_and, if_true, if_false, ↓reduceIte, ne_eq, not_true_eq_false, not_false_eq_true, zl0, zl1, zl2, zl3, zl4, zl5, zl6, zl7, zl8, zl9, zl10, zl12, zl15, zl16, zl20, zl31, zl32, zl48, zl97, zl99, zl100, zl120, zl127, zl128, zl129, zl130, zl137, zl150, zl160, zl169, zl254, zl255, zl256, zl4000, zl65535, zl65536, if_pos, if_neg, zn_inb, zn_cl, zn_eq, zn_lt, zn_le, zn_add, zn_sub, zn_mul, zn_addn, zn_eqn, zn_neq, zn_nlt, zn_nle, zn_ckb, isB_b2i, b2z0, b2z1, b2it, b2if, k, S2.1.2, mem_ok, inR_out, decide_true, c1, R2.1.2.2.1, s1']
            obtain ⟨h5, e5, o1, o2, o3, I5⟩ := LP 2 (if 127 < b a1 then -1 else 0) k (by omega) _ rfl
            rw [if_pos (show 2 = 2 from rfl), iv] at e5
            rw [E, e5]
            rw [if_neg (show ¬ 2 = 4 by omega)] at o2
            by_cases c3 : byO (ivL (byL b a1 len)) = len
            · rw [if_neg (show ¬ (2 = 2 ∧ ¬ byO (ivL (byL b a1 len)) = len) from fun z => z.2 c3)]
              by_cases c4 : tB τ q = true → inR (ivL (byL b a1 len)) (tLo τ q) (tHi τ q) = true
              · rw [if_pos c4, if_pos ⟨c1, c3, c4⟩]
                exact ⟨_, rfl, lf_fin (R2.at (x := a1) (by omega) (by omega)) P2 (K2.sI (by decide)) (by rw [sI_sI]; exact I5) o1 o2 ⟨by omega, by omega, by omega⟩ _ rfl (os := []) (fun i x hx => by cases hx) rfl d'⟩
              · rw [if_neg c4, if_neg (fun z => c4 z.2.2)]
                exact ⟨_, rfl, by show Bad _; unfold Bad; rw [gI_sI, if_pos ⟨rfl, rfl⟩]⟩
            · rw [if_pos (show 2 = 2 ∧ ¬ byO (ivL (byL b a1 len)) = len from ⟨rfl, c3⟩), if_neg (fun z => c3 z.2.1)]
              exact ⟨_, rfl, by show Bad _; unfold Bad; rw [gI_sI, if_pos ⟨rfl, rfl⟩]⟩
          · rw [if_neg (fun z => c1 z.1)]
            unfold fX6_inner_110 fX6_inner_123 fX6_inner_135
            simp (disch := omega) only [mp607, mp608, mp609, mp611, mp612, mp613, mp614, mp615, mp616, mp617, mp618, mp619, mp620, mp621, mp622, mp625, mp626, mp631, mp632, mp633, mp636, mp637, mp638, mp639, mp640, mp641, mp642, mp643, mp645, mp646, mp650, mp651, mp652, mp653, mp654, mp655, mp656, mp657, mp658, ln3001, ln3002, ln3003, ln3004, ln3005, ln3006, ln3007, ln3008, ln3009, ln3010, ln3011, ln3012, ln3013, ln3014, ln3015, ln3016, ln3017, ln3018, ln3019, ln3020, ln3021, ln3022, ln3023, ln3024, ln3025, ln3026, ln3027, ln3028, ln3029, ln3030, ln3031, ln3032, ln3033, ln3034, ln3035, ln3036, ln3037, ln3038, ln3039, ck_t, nn_s, bn_d, ca_s, cv_s, oc_n, oc_s, cx_i, cx_r, cy_i, cy_r, gI_sI, gI_sP, gI_sA, gI_sR, gI_sJ, gI_nw, gI_nx, gP_sI, gP_sP, gP_sA, gP_sR, gP_sJ, gP_nw, gP_nx, gA_sI, gA_sP, gA_sA, gA_sR, gA_sJ, gA_nw, gA_nx, gR_sI, gR_sP, gR_sA, gR_sR, gR_sJ, gR_nw, gR_nx, Nat.reduceEqDiff, or_self, or_true, true_or, or_false, false_or, eq_self, and_self, and_true, true_and, and_false, false_and, if_true, if_false, ↓reduceIte, ne_eq, not_true_eq_false, not_false_eq_true, zl0, zl1, zl2, zl3, zl4, zl5, zl6, zl7, zl8, zl9, zl10, zl12, zl15, zl16, zl20, zl31, zl32, zl48, zl97, zl99, zl100, zl120, zl127, zl128, zl129, zl130, zl137, zl150, zl160, zl169, zl254, zl255, zl256, zl4000, zl65535, zl65536, if_pos, if_neg, zn_inb, zn_cl, zn_eq, zn_lt, zn_le, zn_add, zn_sub, zn_mul, zn_addn, zn_eqn, zn_neq, zn_nlt, zn_nle, zn_ckb, isB_b2i, b2z0, b2z1, b2it, b2if, k, mem_ok, inR_out, decide_eq_false c1]
            have := bad (sI h2 647 3000 (zI ↑a1))
            rw [k] at this
            exact this
        · have L : leaf b τ q a1 len = if tB τ q = true → inR (Int32.ofNat len) (tLo τ q) (tHi τ q) = true then some (Int32.ofNat len, byL b a1 len) else none := by
            unfold leaf; rw [if_neg (show ¬ tK τ q = 5 by omega), if_neg (show ¬ tK τ q = 1 by omega), if_neg (show ¬ tK τ q = 2 by omega)]
          rw [L, zI_nat]
          have E : fX6_inner_110 F d 3000 (zI ↑(tK τ q)) (zI ↑m) (zI ↑(0 : Nat)) (zI ↑len) (sI h2 647 3000 (zI ↑a1)) = fX6_inner_200 F d 3000 (zI ↑(4 : Nat)) (zI ↑m) (zI ↑len) (zI ↑(0 : Nat)) (sI h2 647 3000 (zI ↑a1)) := by
            unfold fX6_inner_110 fX6_inner_123 fX6_inner_135 fX6_inner_156 fX6_inner_199
            simp (disch := omega) only [mp607, mp608, mp609, mp611, mp612, mp613, mp614, mp615, mp616, mp617, mp618, mp619, mp620, mp621, mp622, mp625, mp626, mp631, mp632, mp633, mp636, mp637, mp638, mp639, mp640, mp641, mp642, mp643, mp645, mp646, mp650, mp651, mp652, mp653, mp654, mp655, mp656, mp657, mp658, ln3001, ln3002, ln3003, ln3004, ln3005, ln3006, ln3007, ln3008, ln3009, ln3010, ln3011, ln3012, ln3013, ln3014, ln3015, ln3016, ln3017, ln3018, ln3019, ln3020, ln3021, ln3022, ln3023, ln3024, ln3025, ln3026, ln3027, ln3028, ln3029, ln3030, ln3031, ln3032, ln3033, ln3034, ln3035, ln3036, ln3037, ln3038, ln3039, ck_t, nn_s, bn_d, ca_s, cv_s, oc_n, oc_s, cx_i, cx_r, cy_i, cy_r, gI_sI, gI_sP, gI_sA, gI_sR, gI_sJ, gI_nw, gI_nx, gP_sI, gP_sP, gP_sA, gP_sR, gP_sJ, gP_nw, gP_nx, gA_sI, gA_sP, gA_sA, gA_sR, gA_sJ, gA_nw, gA_nx, gR_sI, gR_sP, gR_sA, gR_sR, gR_sJ, gR_nw, gR_nx, Nat.reduceEqDiff, or_self, or_true, true_or, or_false, false_or, eq_self, and_self, and_true, true_and, and_false, false_and, if_true, if_false, ↓reduceIte, ne_eq, not_true_eq_false, not_false_eq_true, zl0, zl1, zl2, zl3, zl4, zl5, zl6, zl7, zl8, zl9, zl10, zl12, zl15, zl16, zl20, zl31, zl32, zl48, zl97, zl99, zl100, zl120, zl127, zl128, zl129, zl130, zl137, zl150, zl160, zl169, zl254, zl255, zl256, zl4000, zl65535, zl65536, if_pos, if_neg, zn_inb, zn_cl, zn_eq, zn_lt, zn_le, zn_add, zn_sub, zn_mul, zn_addn, zn_eqn, zn_neq, zn_nlt, zn_nle, zn_ckb, isB_b2i, b2z0, b2z1, b2it, b2if, k, R2.1.2.2.1]
          obtain ⟨h5, e5, o1, o2, o3, I5⟩ := LP 4 (zI ↑(0 : Nat)) k (by omega) _ rfl
          rw [if_neg (show ¬ (4 = 2 ∧ ¬ byO (ivS (zI ↑(0 : Nat)) (byL b a1 len)) = len) by omega), if_neg (show ¬ 4 = 2 by omega), if_pos (show 4 = 4 from rfl)] at e5
          rw [E, e5]
          rw [if_pos (show 4 = 4 from rfl)] at o2
          by_cases c4 : tB τ q = true → inR (zI ↑len) (tLo τ q) (tHi τ q) = true
          · rw [if_pos c4, if_pos c4]
            have hl2 : (byL b a1 len).length = len := by simp [byL]
            refine ⟨_, rfl, lf_fin (R2.at (x := a1) (by omega) (by omega)) P2 (K2.sI (by decide)) (by rw [sI_sI]; exact I5) o1 o2 ⟨by omega, by omega, by omega⟩ _ rfl (os := byL b a1 len) (fun i x hx => ?_) (by rw [hl2]) d'⟩
            obtain ⟨b1, b2⟩ := byL_get hx
            rw [b2]; exact o3 rfl i b1
          · rw [if_neg c4, if_neg c4]
            exact ⟨_, rfl, by show Bad _; unfold Bad; rw [gI_sI, if_pos ⟨rfl, rfl⟩]⟩
        · have L : leaf b τ q a1 len = if len = 0 then some (0, []) else none := by
            unfold leaf; rw [if_pos k]
          rw [L]
          by_cases c1 : len = 0
          · subst c1
            rw [if_pos rfl]
            have E : fX6_inner_110 F d 3000 (zI ↑(tK τ q)) (zI ↑m) (zI ↑(0 : Nat)) (zI ↑(0 : Nat)) (sI h2 647 3000 (zI ↑a1)) = some (sI h2 647 3000 (zI ↑a1)) := by
              unfold fX6_inner_110 fX6_inner_123 fX6_inner_135 fX6_inner_156
              simp (disch := omega) only [mp607, mp608, mp609, mp611, mp612, mp613, mp614, mp615, mp616, mp617, mp618, mp619, mp620, mp621, mp622, mp625, mp626, mp631, mp632, mp633, mp636, mp637, mp638, mp639, mp640, mp641, mp642, mp643, mp645, mp646, mp650, mp651, mp652, mp653, mp654, mp655, mp656, mp657, mp658, ln3001, ln3002, ln3003, ln3004, ln3005, ln3006, ln3007, ln3008, ln3009, ln3010, ln3011, ln3012, ln3013, ln3014, ln3015, ln3016, ln3017, ln3018, ln3019, ln3020, ln3021, ln3022, ln3023, ln3024, ln3025, ln3026, ln3027, ln3028, ln3029, ln3030, ln3031, ln3032, ln3033, ln3034, ln3035, ln3036, ln3037, ln3038, ln3039, ck_t, nn_s, bn_d, ca_s, cv_s, oc_n, oc_s, cx_i, cx_r, cy_i, cy_r, gI_sI, gI_sP, gI_sA, gI_sR, gI_sJ, gI_nw, gI_nx, gP_sI, gP_sP, gP_sA, gP_sR, gP_sJ, gP_nw, gP_nx, gA_sI, gA_sP, gA_sA, gA_sR, gA_sJ, gA_nw, gA_nx, gR_sI, gR_sP, gR_sA, gR_sR, gR_sJ, gR_nw, gR_nx, Nat.reduceEqDiff, or_self, or_true, true_or, or_false, false_or, eq_self, and_self, and_true, true_and, and_false, false_and, if_true, if_false, ↓reduceIte, ne_eq, not_true_eq_false, not_false_eq_true, zl0, zl1, zl2, zl3, zl4, zl5, zl6, zl7, zl8, zl9, zl10, zl12, zl15, zl16, zl20, zl31, zl32, zl48, zl97, zl99, zl100, zl120, zl127, zl128, zl129, zl130, zl137, zl150, zl160, zl169, zl254, zl255, zl256, zl4000, zl65535, zl65536, if_pos, if_neg, zn_inb, zn_cl, zn_eq, zn_lt, zn_le, zn_add, zn_sub, zn_mul, zn_addn, zn_eqn, zn_neq, zn_nlt, zn_nle, zn_ckb, isB_b2i, b2z0, b2z1, b2it, b2if, k, R2.1.2.2.1]
            rw [E]
            refine ⟨_, rfl, ?_, ⟨P2, fun i x hx => (by cases hx), trivial⟩, K2.sI (by decide)⟩
            exact R2.at (x := a1) (by omega) (by omega)
          · rw [if_neg c1]
            unfold fX6_inner_110
            simp (disch := omega) only [mp607, mp608, mp609, mp611, mp612, mp613, mp614, mp615, mp616, mp617, mp618, mp619, mp620, mp621, mp622, mp625, mp626, mp631, mp632, mp633, mp636, mp637, mp638, mp639, mp640, mp641, mp642, mp643, mp645, mp646, mp650, mp651, mp652, mp653, mp654, mp655, mp656, mp657, mp658, ln3001, ln3002, ln3003, ln3004, ln3005, ln3006, ln3007, ln3008, ln3009, ln3010, ln3011, ln3012, ln3013, ln3014, ln3015, ln3016, ln3017, ln3018, ln3019, ln3020, ln3021, ln3022, ln3023, ln3024, ln3025, ln3026, ln3027, ln3028, ln3029, ln3030, ln3031, ln3032, ln3033, ln3034, ln3035, ln3036, ln3037, ln3038, ln3039, ck_t, nn_s, bn_d, ca_s, cv_s, oc_n, oc_s, cx_i, cx_r, cy_i, cy_r, gI_sI, gI_sP, gI_sA, gI_sR, gI_sJ, gI_nw, gI_nx, gP_sI, gP_sP, gP_sA, gP_sR, gP_sJ, gP_nw, gP_nx, gA_sI, gA_sP, gA_sA, gA_sR, gA_sJ, gA_nw, gA_nx, gR_sI, gR_sP, gR_sA, gR_sR, gR_sJ, gR_nw, gR_nx, Nat.reduceEqDiff, or_self, or_true, true_or, or_false, false_or, eq_self, and_self, and_true, true_and, and_false, false_and, if_true, if_false, ↓reduceIte, ne_eq, not_true_eq_false, not_false_eq_true, zl0, zl1, zl2, zl3, zl4, zl5, zl6, zl7, zl8, zl9, zl10, zl12, zl15, zl16, zl20, zl31, zl32, zl48, zl97, zl99, zl100, zl120, zl127, zl128, zl129, zl130, zl137, zl150, zl160, zl169, zl254, zl255, zl256, zl4000, zl65535, zl65536, if_pos, if_neg, zn_inb, zn_cl, zn_eq, zn_lt, zn_le, zn_add, zn_sub, zn_mul, zn_addn, zn_eqn, zn_neq, zn_nlt, zn_nle, zn_ckb, isB_b2i, b2z0, b2z1, b2it, b2if, k]
            have := bad (sI h2 647 3000 (zI ↑a1))
            rw [k] at this
            exact this
  · obtain ⟨h1, e1, B1⟩ := H2 C
    refine ⟨h1, e1, ?_⟩
    have : (if m < 100 then (rdLf b τ q x0 a e : Option (Vt (d' + 1) × Nat)) else none) = none := by
      by_cases hm : m < 100
      · rw [if_pos hm]
        unfold rdLf
        rw [if_neg (fun z => C ⟨hm, z.1, z.2⟩)]
      · rw [if_neg hm]
    rw [this]
    exact B1
end Lg
