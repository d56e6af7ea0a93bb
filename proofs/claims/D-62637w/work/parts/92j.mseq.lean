/-! THE MODEL READS BITS (9): marks, sequences, lists -/
set_option maxRecDepth 100000
theorem mrk_bit {L : List Bool} {k : Nat} {x : Bool} (hx : L[k]? = some x) (h6 : L.length ≤ 6) : (zI ↑(thV L.reverse) >>> (zI ↑(L.length - 1 - k) &&& zI ↑(31 : Nat))) &&& zI ↑(1 : Nat) = zI ↑x.toNat := by
  have hk : k < L.length := by
    rcases Nat.lt_or_ge k L.length with z | z
    · exact z
    · rw [List.getElem?_eq_none z] at hx; cases hx
  have lt := thV_lt L.reverse
  rw [List.length_reverse] at lt
  have : 2 ^ L.length ≤ 2 ^ 6 := Nat.pow_le_pow_right (by decide) h6
  have e0 : zI ↑(L.length - 1 - k) &&& zI ↑(31 : Nat) = zI ↑(L.length - 1 - k) := zn_31 (by omega)
  rw [e0, zn_shr (by omega) (by omega), zI_and, Nat.and_one_is_mod]
  have tb := thV_bit L.reverse (L.length - 1 - k)
  rw [List.getD_eq_getElem?_getD, List.getElem?_reverse (by omega), show L.length - 1 - (L.length - 1 - k) = k by omega, hx, Nat.testBit_eq_decide_div_mod_eq] at tb
  have m2 : thV L.reverse / 2 ^ (L.length - 1 - k) % 2 < 2 := Nat.mod_lt _ (by decide)
  generalize thV L.reverse / 2 ^ (L.length - 1 - k) % 2 = y at *
  cases x with
  | true =>
    have : y = 1 := of_decide_eq_true tb
    rw [this]; rfl
  | false =>
    have : ¬ y = 1 := of_decide_eq_false tb
    have : y = 0 := by omega
    rw [this]; rfl
section Ms
variable {F dd fr n N : Nat} {b : Nat → Nat} {τ : Tb}
theorem usq_run {h0 : Hp} {t as q m0 u0 d jt jb : Nat} {of : Int32} {L : List Bool} (EO : WnOK F dd τ b n N jb (d + 1)) (ht : t < N) (w : WFt τ jt t) (hj : jt ≤ 12) (hq : bas τ 200 t = q) (wq : WFt τ (jb + 1) q) (k6 : tK τ q = 6) (hm : m0 < 100) (hfr : fr + 1 + jb ≤ 150) (hF : 1000 ≤ F) (hL : L.length = tN τ q) :
    ∀ (r k : Nat) (h : Hp) (p : Nat) (l : List (Nat × Vt (d + 1))), GU b τ n N h0 h t as of q fr m0 u0 p (zI ↑l.length) l → gA h 3033 fr = zI ↑k → gA h 3034 fr = zI ↑(thV L.reverse) → l.length ≤ k → k + r = tN τ q →
    RU F dd τ t as of h0 h (9 * (m0 + szs l) + k) n fr m0 u0 (fnU q l (upS τ (up b (8 * n) τ false (d + 1)) (dfl τ (d + 1)) q (L.drop k) k p (m0 + 1 + szs l))) := by
  have w6 := wq.seq k6
  intro r
  induction r with
  | zero =>
    intro k h p l G h33 h34 hl hk
    obtain ⟨h', U, hqN, e1⟩ := gp_go (F := F) (dd := dd) G ht w hj hq (Or.inl k6) h33 hm hF
    have G1 := G.go (x := zI ↑(k + 1)) U
    rw [if_pos k6] at e1
    have R := G.2.2.1
    have hk2 : k = tN τ q := by omega
    rw [List.drop_eq_nil_of_le (by omega), upS]
    have g8 : gI (sA h' 3033 fr (zI ↑(k + 1))) 648 3000 - 1 = zI ↑fr := by rw [G1.2.2.1.1.2.1, zn_pred (by omega)]; rfl
    have e2 : fX6_goOnPacked F dd 3000 h = some (sI (sA h' 3033 fr (zI ↑(k + 1))) 648 3000 (zI ↑fr)) := by
      rw [e1, hk2]
      unfold fX6_goOnPacked_66
      rw [if_pos rfl, bn_d, ← hk2, g8]
    have fin := G1.fin (F := F) (dd := dd) (Or.inl k6) (c0 := 9 * (m0 + szs l) + k + 1) (by omega)
    refine RU.pre (k1 := 1) (c1 := 9 * (m0 + szs l) + k + 1) (h1 := sI (sA h' 3033 fr (zI ↑(k + 1))) 648 3000 (zI ↑fr)) (fun nf => ?_) ?_ (by omega)
    · rw [L_gp R, e2, cv_s]
    · simp only [fnU, List.length_nil, Nat.add_zero, List.append_nil]
      exact fin
  | succ r ih =>
    intro k h p l G h33 h34 hl hk
    obtain ⟨h', U, hqN, e1⟩ := gp_go (F := F) (dd := dd) G ht w hj hq (Or.inl k6) h33 hm hF
    have G1 := G.go (x := zI ↑(k + 1)) U
    rw [if_pos k6] at e1
    have R := G.2.2.1
    obtain ⟨g1, g2, g3, g4, g5, g6, g7⟩ := G1
    have G1 : GU b τ n N h0 (sA h' 3033 fr (zI ↑(k + 1))) t as of q fr m0 u0 p (zI ↑l.length) l := ⟨g1, g2, g3, g4, g5, g6, g7⟩
    have i33 : gA (sA h' 3033 fr (zI ↑(k + 1))) 3033 fr = zI ↑(k + 1) := by rw [gA_sA, if_pos ⟨rfl, rfl⟩]
    have i34 : gA (sA h' 3033 fr (zI ↑(k + 1))) 3034 fr = zI ↑(thV L.reverse) := by rw [gA_sA, if_neg (by omega), U.2.2.2.2.1 _ _ (by omega) (by omega)]; exact h34
    generalize sA h' 3033 fr (zI ↑(k + 1)) = h1 at *
    have hN := g2.1
    obtain ⟨⟨a1, a2, -⟩, -, -, -, a9⟩ := g2.2 q hqN
    obtain ⟨c1, c2, c3, c4⟩ := a9 k (by omega)
    obtain ⟨wF, wD, wk⟩ := w6.2 k (by omega)
    have r7 := g3.2.1
    have r8 := g3.2.2.1
    obtain ⟨is, his⟩ : ∃ is, L[k]? = some is := ⟨L[k]'(by omega), List.getElem?_eq_getElem (by omega)⟩
    have hdr : L.drop k = is :: L.drop (k + 1) := by
      rw [List.drop_eq_getElem_cons (show k < L.length by omega)]
      congr 1
      have := List.getElem?_eq_getElem (show k < L.length by omega)
      rw [his] at this; cases this; rfl
    have mb := mrk_bit his (by omega)
    rw [hL] at mb
    rw [hdr, upS]
    cases is with
    | true =>
      rw [if_pos rfl]
      have G2 := G1.set (zI ↑(l.length + 1))
      obtain ⟨h2, e2, k2, h3, r3, p3⟩ := EO (sA h1 3022 m0 (zI ↑(l.length + 1))) p (fr + 1) (m0 + 1 + szs l) (u0 + ozs l) (tC τ q k) k (zI ↑m0) G2.1 G2.2.2.1 G2.2.1 c4 wk (by omega)
      have p4 := g5.2.2.2.1
      have E : fX6_goOnPacked F dd 3000 h = some h2 := by
        rw [e1]
        unfold fX6_goOnPacked_66
        have mb1 : (zI ↑(thV L.reverse) >>> (zI ↑(tN τ q - 1 - k) &&& zI ↑(31 : Nat))) &&& zI ↑(1 : Nat) = zI ↑(1 : Nat) := mb
        simp (disch := omega) only [mp607, mp608, mp609, mp611, mp612, mp613, mp614, mp615, mp616, mp617, mp618, mp619, mp620, mp621, mp622, mp625, mp626, mp631, mp632, mp633, mp636, mp637, mp638, mp639, mp640, mp641, mp642, mp643, mp645, mp646, mp650, mp651, mp652, mp653, mp654, mp655, mp656, mp657, mp658, ln3001, ln3002, ln3003, ln3004, ln3005, ln3006, ln3007, ln3008, ln3009, ln3010, ln3011, ln3012, ln3013, ln3014, ln3015, ln3016, ln3017, ln3018, ln3019, ln3020, ln3021, ln3022, ln3023, ln3024, ln3025, ln3026, ln3027, ln3028, ln3029, ln3030, ln3031, ln3032, ln3033, ln3034, ln3035, ln3036, ln3037, ln3038, ln3039, ck_t, nn_s, bn_d, ca_s, cv_s, oc_n, oc_s, cx_i, cx_r, cy_i, cy_r, gI_sI, gI_sP, gI_sA, gI_sR, gI_sJ, gI_nw, gI_nx, gP_sI, gP_sP, gP_sA, gP_sR, gP_sJ, gP_nw, gP_nx, gA_sI, gA_sP, gA_sA, gA_sR, gA_sJ, gA_nw, gA_nx, gR_sI, gR_sP, gR_sA, gR_sR, gR_sJ, gR_nw, gR_nx, reduceCtorEq, Nat.reduceEqDiff, or_self, or_true, true_or, or_false, false_or, eq_self, and_self, and_true, true_and, and_false, false_and, if_true, if_false, ↓reduceIte, ne_eq, not_true_eq_false, not_false_eq_true, zl0, zl1, zl2, zl3, zl4, zl5, zl6, zl7, zl8, zl9, zl10, zl12, zl15, zl16, zl20, zl31, zl32, zl48, zl97, zl99, zl100, zl120, zl127, zl128, zl129, zl130, zl137, zl150, zl160, zl169, zl254, zl255, zl256, zl4000, zl65535, zl65536, if_pos, if_neg, zn_inb, zn_cl, zn_eq, zn_lt, zn_le, zn_add, zn_sub, zn_mul, zn_addn, zn_eqn, zn_neq, zn_nlt, zn_nle, zn_ckb, isB_b2i, b2z0, b2z1, b2it, b2if, g1.1.2, a1, a2, k6, i34, mb1, p4, c1, e2]
      cases hr1 : up b (8 * n) τ false (d + 1) (tC τ q k) p (m0 + 1 + szs l) with
      | none =>
        rw [hr1] at p3
        refine ⟨1 + k2, h3, fun nf => ?_, p3.1, by have := p3.2; omega⟩
        rw [show nf + (1 + k2) = (nf + k2) + 1 by omega, L_gp R, E, cv_s, r3]
      | some z =>
        obtain ⟨v, p1⟩ := z
        rw [hr1] at p3
        obtain ⟨⟨R3, P3, K3⟩, hk3⟩ := p3
        obtain ⟨G4, n33, n34⟩ := G2.kid (k := k) (v := v) K3 R3 (by rw [kdT_6 k6]; exact P3)
        have e6 : szs (l ++ [(k, v)]) = szs l + sz (d + 1) v := by rw [szs_app, szs_cons, szs_nil]; rfl
        have e7 : (l ++ [(k, v)]).length = l.length + 1 := by simp
        have G5 : GU b τ n N h0 h3 t as of q fr m0 u0 p1 (zI ↑(l ++ [(k, v)]).length) (l ++ [(k, v)]) := by rw [e7]; exact G4
        have I := ih (k + 1) h3 p1 (l ++ [(k, v)]) G5 (n33.trans (by rw [gA_sA, if_neg (by omega)]; exact i33)) (n34.trans (by rw [gA_sA, if_neg (by omega)]; exact i34)) (by omega) (by omega)
        rw [e6, ← Nat.add_assoc m0, ← Nat.add_assoc (m0 + 1), ← fnU_c] at I
        refine RU.pre (k1 := 1 + k2) (h1 := h3) (fun nf => ?_) I ?_
        · rw [show nf + (1 + k2) = (nf + k2) + 1 by omega, L_gp R, E, cv_s, r3]
        · omega
    | false =>
      rw [if_neg (by decide)]
      obtain ⟨h2, e2, q1, q1b, q1c⟩ := pabs_ok (F := F) (dd := dd) G1 hqN k6 (show k < tN τ q by omega) w6.1 wF hm (by omega)
      have E : fX6_goOnPacked F dd 3000 h = some h2 := by
        rw [e1]
        unfold fX6_goOnPacked_66
        have mb1 : (zI ↑(thV L.reverse) >>> (zI ↑(tN τ q - 1 - k) &&& zI ↑(31 : Nat))) &&& zI ↑(1 : Nat) = zI ↑(0 : Nat) := mb
        simp (disch := omega) only [mp607, mp608, mp609, mp611, mp612, mp613, mp614, mp615, mp616, mp617, mp618, mp619, mp620, mp621, mp622, mp625, mp626, mp631, mp632, mp633, mp636, mp637, mp638, mp639, mp640, mp641, mp642, mp643, mp645, mp646, mp650, mp651, mp652, mp653, mp654, mp655, mp656, mp657, mp658, ln3001, ln3002, ln3003, ln3004, ln3005, ln3006, ln3007, ln3008, ln3009, ln3010, ln3011, ln3012, ln3013, ln3014, ln3015, ln3016, ln3017, ln3018, ln3019, ln3020, ln3021, ln3022, ln3023, ln3024, ln3025, ln3026, ln3027, ln3028, ln3029, ln3030, ln3031, ln3032, ln3033, ln3034, ln3035, ln3036, ln3037, ln3038, ln3039, ck_t, nn_s, bn_d, ca_s, cv_s, oc_n, oc_s, cx_i, cx_r, cy_i, cy_r, gI_sI, gI_sP, gI_sA, gI_sR, gI_sJ, gI_nw, gI_nx, gP_sI, gP_sP, gP_sA, gP_sR, gP_sJ, gP_nw, gP_nx, gA_sI, gA_sP, gA_sA, gA_sR, gA_sJ, gA_nw, gA_nx, gR_sI, gR_sP, gR_sA, gR_sR, gR_sJ, gR_nw, gR_nx, reduceCtorEq, Nat.reduceEqDiff, or_self, or_true, true_or, or_false, false_or, eq_self, and_self, and_true, true_and, and_false, false_and, if_true, if_false, ↓reduceIte, ne_eq, not_true_eq_false, not_false_eq_true, zl0, zl1, zl2, zl3, zl4, zl5, zl6, zl7, zl8, zl9, zl10, zl12, zl15, zl16, zl20, zl31, zl32, zl48, zl97, zl99, zl100, zl120, zl127, zl128, zl129, zl130, zl137, zl150, zl160, zl169, zl254, zl255, zl256, zl4000, zl65535, zl65536, if_pos, if_neg, zn_inb, zn_cl, zn_eq, zn_lt, zn_le, zn_add, zn_sub, zn_mul, zn_addn, zn_eqn, zn_neq, zn_nlt, zn_nle, zn_ckb, isB_b2i, b2z0, b2z1, b2it, b2if, g1.1.2, a1, a2, k6, i34, mb1, e2]
      have st : ∀ nf, fX6_isValue_47 F dd (nf + 1) 3000 2 h = fX6_isValue_47 F dd nf 3000 2 h2 := fun nf => by rw [L_gp R, E, cv_s]
      by_cases f0 : tF τ q k = 0
      · rw [if_pos f0]
        exact ⟨1, h2, st, q1 (Or.inl f0), by omega⟩
      · rw [if_neg f0]
        by_cases f2 : tF τ q k = 2
        · rw [if_pos f2]
          by_cases c : m0 + 1 + szs l < 100
          · rw [if_pos c]
            obtain ⟨G4, n33, n34⟩ := q1b f2 c
            have e6 : szs (l ++ [(k, dfl τ (d + 1) (tC τ q k) (tD τ q k))]) = szs l + 1 := by rw [szs_app, szs_cons, szs_nil, (dfl_sz d _ _).1]
            have e7 : (l ++ [(k, dfl τ (d + 1) (tC τ q k) (tD τ q k))]).length = l.length + 1 := by simp
            have G5 : GU b τ n N h0 h2 t as of q fr m0 u0 p (zI ↑(l ++ [(k, dfl τ (d + 1) (tC τ q k) (tD τ q k))]).length) (l ++ [(k, dfl τ (d + 1) (tC τ q k) (tD τ q k))]) := by rw [e7]; exact G4
            have I := ih (k + 1) h2 p _ G5 (n33.trans i33) (n34.trans i34) (by omega) (by omega)
            rw [e6, ← Nat.add_assoc m0, ← Nat.add_assoc (m0 + 1), ← fnU_c] at I
            exact RU.pre (k1 := 1) (h1 := h2) st I (by omega)
          · rw [if_neg c]
            exact ⟨1, h2, st, q1 (Or.inr ⟨f2, c⟩), by omega⟩
        · rw [if_neg f2]
          have eh := q1c (by omega)
          subst eh
          have I := ih (k + 1) h2 p l G1 i33 i34 (by omega) (by omega)
          exact RU.pre (k1 := 1) (h1 := h2) st I (by omega)
theorem uls_run {h0 : Hp} {t as q m0 u0 d jt jb n1 : Nat} {of : Int32} (EO : WnOK F dd τ b n N jb d) (ht : t < N) (w : WFt τ jt t) (hj : jt ≤ 12) (hq : bas τ 200 t = q) (wq : WFt τ (jb + 1) q) (k7 : tK τ q = 7) (hm : m0 < 100) (hfr : fr + 1 + jb ≤ 150) (hF : 1000 ≤ F) (hn1 : n1 ≤ 127) :
    ∀ (r : Nat) (h : Hp) (p : Nat) (l : List (Nat × Vt d)), GU b τ n N h0 h t as of q fr m0 u0 p (zI ↑n1) l → gA h 3033 fr = zI ↑l.length → l.length + r = n1 →
    RU F dd τ t as of h0 h (9 * (m0 + szs l)) n fr m0 u0 (fnU q l (upL τ (up b (8 * n) τ false d) q r l.length p (m0 + 1 + szs l))) := by
  have w7 := wq.lst k7
  intro r
  induction r with
  | zero =>
    intro h p l G h33 hl
    obtain ⟨h', U, hqN, e1⟩ := gp_go (F := F) (dd := dd) G ht w hj hq (Or.inr k7) h33 hm hF
    have G1 := G.go (x := zI ↑(l.length + 1)) U
    rw [if_neg (show ¬ tK τ q = 6 by omega)] at e1
    have R := G.2.2.1
    have hk2 : n1 = l.length := by omega
    subst hk2
    rw [upL]
    have g8 : gI (sA h' 3033 fr (zI ↑(l.length + 1))) 648 3000 - 1 = zI ↑fr := by rw [G1.2.2.1.1.2.1, zn_pred (by omega)]; rfl
    have e2 : fX6_goOnPacked F dd 3000 h = some (sI (sA h' 3033 fr (zI ↑(l.length + 1))) 648 3000 (zI ↑fr)) := by
      rw [e1]
      unfold fX6_goOnPacked_66
      rw [if_pos rfl, bn_d, g8]
    have fin := G1.fin (F := F) (dd := dd) (Or.inr k7) (c0 := 9 * (m0 + szs l) + 1) (by omega)
    refine RU.pre (k1 := 1) (c1 := 9 * (m0 + szs l) + 1) (h1 := sI (sA h' 3033 fr (zI ↑(l.length + 1))) 648 3000 (zI ↑fr)) (fun nf => ?_) ?_ (by omega)
    · rw [L_gp R, e2, cv_s]
    · simp only [fnU, List.length_nil, Nat.add_zero, List.append_nil]
      exact fin
  | succ r ih =>
    intro h p l G h33 hl
    obtain ⟨h', U, hqN, e1⟩ := gp_go (F := F) (dd := dd) G ht w hj hq (Or.inr k7) h33 hm hF
    have G1 := G.go (x := zI ↑(l.length + 1)) U
    rw [if_neg (show ¬ tK τ q = 6 by omega)] at e1
    have R := G.2.2.1
    obtain ⟨g1, g2, g3, g4, g5, g6, g7⟩ := G1
    have G1 : GU b τ n N h0 (sA h' 3033 fr (zI ↑(l.length + 1))) t as of q fr m0 u0 p (zI ↑n1) l := ⟨g1, g2, g3, g4, g5, g6, g7⟩
    have i33 : gA (sA h' 3033 fr (zI ↑(l.length + 1))) 3033 fr = zI ↑(l.length + 1) := by rw [gA_sA, if_pos ⟨rfl, rfl⟩]
    generalize sA h' 3033 fr (zI ↑(l.length + 1)) = h1 at *
    have hN := g2.1
    obtain ⟨⟨a1, a2, -⟩, -, -, a8, a9⟩ := g2.2 q hqN
    obtain ⟨c1, c2, c3, c4⟩ := a9 0 (by have := a8 (Or.inl k7); omega)
    rw [Nat.add_zero] at c1
    have r7 := g3.2.1
    have r8 := g3.2.2.1
    rw [upL]
    obtain ⟨h2, e2, k2, h3, r3, p3⟩ := EO h1 p (fr + 1) (m0 + 1 + szs l) (u0 + ozs l) (tC τ q 0) l.length (zI ↑m0) g1 g3 g2 c4 w7.2 (by omega)
    have E : fX6_goOnPacked F dd 3000 h = some h2 := by
      rw [e1]
      unfold fX6_goOnPacked_66
      simp (disch := omega) only [mp607, mp608, mp609, mp611, mp612, mp613, mp614, mp615, mp616, mp617, mp618, mp619, mp620, mp621, mp622, mp625, mp626, mp631, mp632, mp633, mp636, mp637, mp638, mp639, mp640, mp641, mp642, mp643, mp645, mp646, mp650, mp651, mp652, mp653, mp654, mp655, mp656, mp657, mp658, ln3001, ln3002, ln3003, ln3004, ln3005, ln3006, ln3007, ln3008, ln3009, ln3010, ln3011, ln3012, ln3013, ln3014, ln3015, ln3016, ln3017, ln3018, ln3019, ln3020, ln3021, ln3022, ln3023, ln3024, ln3025, ln3026, ln3027, ln3028, ln3029, ln3030, ln3031, ln3032, ln3033, ln3034, ln3035, ln3036, ln3037, ln3038, ln3039, ck_t, nn_s, bn_d, ca_s, cv_s, oc_n, oc_s, cx_i, cx_r, cy_i, cy_r, gI_sI, gI_sP, gI_sA, gI_sR, gI_sJ, gI_nw, gI_nx, gP_sI, gP_sP, gP_sA, gP_sR, gP_sJ, gP_nw, gP_nx, gA_sI, gA_sP, gA_sA, gA_sR, gA_sJ, gA_nw, gA_nx, gR_sI, gR_sP, gR_sA, gR_sR, gR_sJ, gR_nw, gR_nx, reduceCtorEq, Nat.reduceEqDiff, or_self, or_true, true_or, or_false, false_or, eq_self, and_self, and_true, true_and, and_false, false_and, if_true, if_false, ↓reduceIte, ne_eq, not_true_eq_false, not_false_eq_true, zl0, zl1, zl2, zl3, zl4, zl5, zl6, zl7, zl8, zl9, zl10, zl12, zl15, zl16, zl20, zl31, zl32, zl48, zl97, zl99, zl100, zl120, zl127, zl128, zl129, zl130, zl137, zl150, zl160, zl169, zl254, zl255, zl256, zl4000, zl65535, zl65536, if_pos, if_neg, zn_inb, zn_cl, zn_eq, zn_lt, zn_le, zn_add, zn_sub, zn_mul, zn_addn, zn_eqn, zn_neq, zn_nlt, zn_nle, zn_ckb, isB_b2i, b2z0, b2z1, b2it, b2if, g1.1.2, a1, k7, c1, e2]
    cases hr1 : up b (8 * n) τ false d (tC τ q 0) p (m0 + 1 + szs l) with
    | none =>
      rw [hr1] at p3
      refine ⟨1 + k2, h3, fun nf => ?_, p3.1, by have := p3.2; omega⟩
      rw [show nf + (1 + k2) = (nf + k2) + 1 by omega, L_gp R, E, cv_s, r3]
    | some z =>
      obtain ⟨v, p1⟩ := z
      rw [hr1] at p3
      obtain ⟨⟨R3, P3, K3⟩, hk3⟩ := p3
      obtain ⟨G4, n33, n34⟩ := G1.kid (k := l.length) (v := v) K3 R3 (by rw [kdT_7 k7]; exact P3)
      have e6 : szs (l ++ [(l.length, v)]) = szs l + sz d v := by rw [szs_app, szs_cons, szs_nil, Nat.add_zero]
      have e7 : (l ++ [(l.length, v)]).length = l.length + 1 := by simp
      have I := ih h3 p1 (l ++ [(l.length, v)]) G4 (by rw [e7]; exact n33.trans i33) (by omega)
      rw [e7, e6, ← Nat.add_assoc m0, ← Nat.add_assoc (m0 + 1), ← fnU_c] at I
      refine RU.pre (k1 := 1 + k2) (h1 := h3) (fun nf => ?_) I ?_
      · rw [show nf + (1 + k2) = (nf + k2) + 1 by omega, L_gp R, E, cv_s, r3]
      · omega
/-- a bit over a bad state -/
theorem bit_b {h : Hp} (B : Bad h) : ∃ h', fX6_bit F dd 3000 h = some (0, h') ∧ Bad h' ∧ PQ h h' := by
  unfold Bad at B
  unfold fX6_bit fX6_bit_19
  by_cases c : gI h 647 3000 < 8 * gI h 628 3000
  · have B2 : gI (sI h 647 3000 (gI h 647 3000 + 1)) 649 3000 = 0 := by rw [gI_sI, if_neg (by omega)]; exact B
    rw [if_pos c, bn_d, if_pos B2]
    exact ⟨_, rfl, B2, PQ.s7 _ _⟩
  · have B2 : gI (sI (sI h 649 3000 0) 647 3000 (gI (sI h 649 3000 0) 647 3000 + 1)) 649 3000 = 0 := by rw [gI_sI, if_neg (by omega), gI_sI, if_pos ⟨rfl, rfl⟩]
    rw [if_neg c, bn_d, bn_d, if_pos B2]
    exact ⟨_, rfl, B2, (PQ.s9 _ _).tr (PQ.s7 _ _)⟩
/-- only the place, whether it is good, and the marks of a frame have changed -/
def FQ (fr : Nat) (h h' : Hp) : Prop := (gP h' = gP h ∧ gL h' = gL h ∧ gR h' = gR h) ∧ (∀ g y, ¬ (y = 3000 ∧ (g = 647 ∨ g = 649)) → gI h' g y = gI h g y) ∧ ∀ y i, ¬ (y = 3034 ∧ i = fr) → gA h' y i = gA h y i
theorem FQ.rf (h : Hp) : FQ fr h h := ⟨⟨rfl, rfl, rfl⟩, fun _ _ _ => rfl, fun _ _ _ => rfl⟩
theorem FQ.tr {h1 h2 h3 : Hp} (a : FQ fr h1 h2) (c : FQ fr h2 h3) : FQ fr h1 h3 :=
  ⟨⟨c.1.1.trans a.1.1, c.1.2.1.trans a.1.2.1, c.1.2.2.trans a.1.2.2⟩, fun g y q => (c.2.1 g y q).trans (a.2.1 g y q), fun y i q => (c.2.2 y i q).trans (a.2.2 y i q)⟩
theorem PQ.fq {h h' : Hp} (a : PQ h h') (x : Int32) : FQ fr h (sA h' 3034 fr x) := ⟨⟨a.1.1, a.1.2.1, a.1.2.2.1⟩, a.2, fun y i q => by rw [gA_sA, if_neg q, a.1.2.2.2]⟩
theorem FQ.km {m u : Nat} {h h' : Hp} (a : FQ fr h h') : KM fr m u h h' := by
  refine ⟨a.1, fun g y q => a.2.1 g y (fun z => q ⟨z.1, ?_⟩), fun y i q => a.2.2 y i (fun z => ?_), fun y i _ _ hi => a.2.2 y i (by omega), fun y i p q _ => a.2.2 y i (by omega), fun i hi => a.2.2 _ i (by omega)⟩
  · rcases z.2 with w | w <;> rw [w] <;> decide
  · rw [z.1] at q; revert q; decide
theorem mk_b {q m0 : Nat} (hq : q < N) (k6 : tK τ q = 6) (h6 : tN τ q ≤ 6) (hF2 : ∀ k, k < tN τ q → tF τ q k ≤ 2) (hfr : fr < 159) : ∀ (r k nf : Nat) (h : Hp), MP h → MT h τ N → gI h 648 3000 = zI ↑(fr + 1) → Bad h → k + r = tN τ q → r < nf →
    ∃ h', fX6_want_382 F dd nf 3000 (zI ↑m0) (zI ↑q) (zI ↑(6 * q + k)) h = fX6_want_461 F dd 3000 (zI ↑m0) (zI ↑q) h' ∧ Bad h' ∧ FQ fr h h' := by
  intro r
  induction r with
  | zero =>
    intro k nf h M T h8 B hk hn
    obtain ⟨f, rfl⟩ : ∃ f, nf = f + 1 := ⟨nf - 1, by omega⟩
    have hN := T.1
    obtain ⟨⟨a1, a2, -⟩, -⟩ := T.2 q hq
    refine ⟨h, ?_, B, FQ.rf h⟩
    rw [fX6_want_382]
    have : k = tN τ q := by omega
    subst this
    simp (disch := omega) only [mp607, mp608, mp609, mp611, mp612, mp613, mp614, mp615, mp616, mp617, mp618, mp619, mp620, mp621, mp622, mp625, mp626, mp631, mp632, mp633, mp636, mp637, mp638, mp639, mp640, mp641, mp642, mp643, mp645, mp646, mp650, mp651, mp652, mp653, mp654, mp655, mp656, mp657, mp658, ln3001, ln3002, ln3003, ln3004, ln3005, ln3006, ln3007, ln3008, ln3009, ln3010, ln3011, ln3012, ln3013, ln3014, ln3015, ln3016, ln3017, ln3018, ln3019, ln3020, ln3021, ln3022, ln3023, ln3024, ln3025, ln3026, ln3027, ln3028, ln3029, ln3030, ln3031, ln3032, ln3033, ln3034, ln3035, ln3036, ln3037, ln3038, ln3039, ck_t, nn_s, bn_d, ca_s, cv_s, oc_n, oc_s, cx_i, cx_r, cy_i, cy_r, gI_sI, gI_sP, gI_sA, gI_sR, gI_sJ, gI_nw, gI_nx, gP_sI, gP_sP, gP_sA, gP_sR, gP_sJ, gP_nw, gP_nx, gA_sI, gA_sP, gA_sA, gA_sR, gA_sJ, gA_nw, gA_nx, gR_sI, gR_sP, gR_sA, gR_sR, gR_sJ, gR_nw, gR_nx, reduceCtorEq, Nat.reduceEqDiff, or_self, or_true, true_or, or_false, false_or, eq_self, and_self, and_true, true_and, and_false, false_and, if_true, if_false, ↓reduceIte, ne_eq, not_true_eq_false, not_false_eq_true, zl0, zl1, zl2, zl3, zl4, zl5, zl6, zl7, zl8, zl9, zl10, zl12, zl15, zl16, zl20, zl31, zl32, zl48, zl97, zl99, zl100, zl120, zl127, zl128, zl129, zl130, zl137, zl150, zl160, zl169, zl254, zl255, zl256, zl4000, zl65535, zl65536, if_pos, if_neg, zn_inb, zn_cl, zn_eq, zn_lt, zn_le, zn_add, zn_sub, zn_mul, zn_addn, zn_eqn, zn_neq, zn_nlt, zn_nle, zn_ckb, isB_b2i, b2z0, b2z1, b2it, b2if, M.2, a2]
  | succ r ih =>
    intro k nf h M T h8 B hk hn
    obtain ⟨f, rfl⟩ : ∃ f, nf = f + 1 := ⟨nf - 1, by omega⟩
    have hN := T.1
    obtain ⟨⟨a1, a2, -⟩, -, -, -, a9⟩ := T.2 q hq
    obtain ⟨c1, c2, c3, c4⟩ := a9 k (by omega)
    by_cases f0 : tF τ q k = 0
    · have Q : FQ fr h (sA h 3034 fr (zI ↑(2 : Nat) * gA h 3034 fr + zI ↑(1 : Nat))) := (PQ.rf h).fq _
      obtain ⟨h', e1, B1, Q1⟩ := ih (k + 1) f (sA h 3034 fr (zI ↑(2 : Nat) * gA h 3034 fr + zI ↑(1 : Nat))) M ((FQ.km (m := 0) (u := 0) Q).mt T) h8 B (by omega) (by omega)
      refine ⟨h', ?_, B1, Q.tr Q1⟩
      rw [← e1, fX6_want_382]
      unfold fX6_want_453
      simp (disch := omega) only [mp607, mp608, mp609, mp611, mp612, mp613, mp614, mp615, mp616, mp617, mp618, mp619, mp620, mp621, mp622, mp625, mp626, mp631, mp632, mp633, mp636, mp637, mp638, mp639, mp640, mp641, mp642, mp643, mp645, mp646, mp650, mp651, mp652, mp653, mp654, mp655, mp656, mp657, mp658, ln3001, ln3002, ln3003, ln3004, ln3005, ln3006, ln3007, ln3008, ln3009, ln3010, ln3011, ln3012, ln3013, ln3014, ln3015, ln3016, ln3017, ln3018, ln3019, ln3020, ln3021, ln3022, ln3023, ln3024, ln3025, ln3026, ln3027, ln3028, ln3029, ln3030, ln3031, ln3032, ln3033, ln3034, ln3035, ln3036, ln3037, ln3038, ln3039, ck_t, nn_s, bn_d, ca_s, cv_s, oc_n, oc_s, cx_i, cx_r, cy_i, cy_r, gI_sI, gI_sP, gI_sA, gI_sR, gI_sJ, gI_nw, gI_nx, gP_sI, gP_sP, gP_sA, gP_sR, gP_sJ, gP_nw, gP_nx, gA_sI, gA_sP, gA_sA, gA_sR, gA_sJ, gA_nw, gA_nx, gR_sI, gR_sP, gR_sA, gR_sR, gR_sJ, gR_nw, gR_nx, reduceCtorEq, Nat.reduceEqDiff, or_self, or_true, true_or, or_false, false_or, eq_self, and_self, and_true, true_and, and_false, false_and, if_true, if_false, ↓reduceIte, ne_eq, not_true_eq_false, not_false_eq_true, zl0, zl1, zl2, zl3, zl4, zl5, zl6, zl7, zl8, zl9, zl10, zl12, zl15, zl16, zl20, zl31, zl32, zl48, zl97, zl99, zl100, zl120, zl127, zl128, zl129, zl130, zl137, zl150, zl160, zl169, zl254, zl255, zl256, zl4000, zl65535, zl65536, if_pos, if_neg, zn_inb, zn_cl, zn_eq, zn_lt, zn_le, zn_add, zn_sub, zn_mul, zn_addn, zn_eqn, zn_neq, zn_nlt, zn_nle, zn_ckb, isB_b2i, b2z0, b2z1, b2it, b2if, M.2, a1, a2, k6, h8, Nat.add_sub_cancel, c2, f0]
      rfl
    · obtain ⟨h2, e2, B2, q2⟩ := bit_b (F := F) (dd := dd) B
      have e2' : fX6_bit F dd 3000 h = some (zI ↑(0 : Nat), h2) := e2
      have Q : FQ fr h (sA h2 3034 fr (zI ↑(2 : Nat) * gA h 3034 fr + zI ↑(0 : Nat))) := q2.fq _
      obtain ⟨h', e1, B1, Q1⟩ := ih (k + 1) f (sA h2 3034 fr (zI ↑(2 : Nat) * gA h 3034 fr + zI ↑(0 : Nat))) ((FQ.km (m := 0) (u := 0) Q).mp M) ((FQ.km (m := 0) (u := 0) Q).mt T) ((Q.2.1 _ _ (by omega)).trans h8) B2 (by omega) (by omega)
      refine ⟨h', ?_, B1, Q.tr Q1⟩
      have fk := hF2 k (by omega)
      rw [← e1, fX6_want_382]
      unfold fX6_want_453
      simp (disch := omega) only [mp607, mp608, mp609, mp611, mp612, mp613, mp614, mp615, mp616, mp617, mp618, mp619, mp620, mp621, mp622, mp625, mp626, mp631, mp632, mp633, mp636, mp637, mp638, mp639, mp640, mp641, mp642, mp643, mp645, mp646, mp650, mp651, mp652, mp653, mp654, mp655, mp656, mp657, mp658, ln3001, ln3002, ln3003, ln3004, ln3005, ln3006, ln3007, ln3008, ln3009, ln3010, ln3011, ln3012, ln3013, ln3014, ln3015, ln3016, ln3017, ln3018, ln3019, ln3020, ln3021, ln3022, ln3023, ln3024, ln3025, ln3026, ln3027, ln3028, ln3029, ln3030, ln3031, ln3032, ln3033, ln3034, ln3035, ln3036, ln3037, ln3038, ln3039, ck_t, nn_s, bn_d, ca_s, cv_s, oc_n, oc_s, cx_i, cx_r, cy_i, cy_r, gI_sI, gI_sP, gI_sA, gI_sR, gI_sJ, gI_nw, gI_nx, gP_sI, gP_sP, gP_sA, gP_sR, gP_sJ, gP_nw, gP_nx, gA_sI, gA_sP, gA_sA, gA_sR, gA_sJ, gA_nw, gA_nx, gR_sI, gR_sP, gR_sA, gR_sR, gR_sJ, gR_nw, gR_nx, reduceCtorEq, Nat.reduceEqDiff, or_self, or_true, true_or, or_false, false_or, eq_self, and_self, and_true, true_and, and_false, false_and, if_true, if_false, ↓reduceIte, ne_eq, not_true_eq_false, not_false_eq_true, zl0, zl1, zl2, zl3, zl4, zl5, zl6, zl7, zl8, zl9, zl10, zl12, zl15, zl16, zl20, zl31, zl32, zl48, zl97, zl99, zl100, zl120, zl127, zl128, zl129, zl130, zl137, zl150, zl160, zl169, zl254, zl255, zl256, zl4000, zl65535, zl65536, if_pos, if_neg, zn_inb, zn_cl, zn_eq, zn_lt, zn_le, zn_add, zn_sub, zn_mul, zn_addn, zn_eqn, zn_neq, zn_nlt, zn_nle, zn_ckb, isB_b2i, b2z0, b2z1, b2it, b2if, M.2, a1, a2, k6, h8, Nat.add_sub_cancel, c2, e2']
      rfl
/-- the marks of a sequence -/
theorem mk_g {q m0 m u : Nat} (hq : q < N) (k6 : tK τ q = 6) (h6 : tN τ q ≤ 6) (hF2 : ∀ k, k < tN τ q → tF τ q k ≤ 2) (hfr : fr < 150) : ∀ (r k nf : Nat) (h : Hp) (p : Nat) (L : List Bool), MSrc h b n → MT h τ N → MK h n p (fr + 1) m u → gA h 3034 fr = zI ↑(thV L.reverse) → L.length = k → k + r = tN τ q → r < nf →
    ∃ h', fX6_want_382 F dd nf 3000 (zI ↑m0) (zI ↑q) (zI ↑(6 * q + k)) h = fX6_want_461 F dd 3000 (zI ↑m0) (zI ↑q) h' ∧ FQ fr h h' ∧ (match mks b (8 * n) τ q r k p with
      | none => Bad h'
      | some (l, p1) => MK h' n p1 (fr + 1) m u ∧ gA h' 3034 fr = zI ↑(thV (L ++ l).reverse) ∧ l.length = r) := by
  intro r
  induction r with
  | zero =>
    intro k nf h p L S T R h34 hL hk hn
    obtain ⟨f, rfl⟩ : ∃ f, nf = f + 1 := ⟨nf - 1, by omega⟩
    have hN := T.1
    have M := S.1
    obtain ⟨⟨a1, a2, -⟩, -⟩ := T.2 q hq
    refine ⟨h, ?_, FQ.rf h, ?_⟩
    · rw [fX6_want_382]
      have : k = tN τ q := by omega
      subst this
      simp (disch := omega) only [mp607, mp608, mp609, mp611, mp612, mp613, mp614, mp615, mp616, mp617, mp618, mp619, mp620, mp621, mp622, mp625, mp626, mp631, mp632, mp633, mp636, mp637, mp638, mp639, mp640, mp641, mp642, mp643, mp645, mp646, mp650, mp651, mp652, mp653, mp654, mp655, mp656, mp657, mp658, ln3001, ln3002, ln3003, ln3004, ln3005, ln3006, ln3007, ln3008, ln3009, ln3010, ln3011, ln3012, ln3013, ln3014, ln3015, ln3016, ln3017, ln3018, ln3019, ln3020, ln3021, ln3022, ln3023, ln3024, ln3025, ln3026, ln3027, ln3028, ln3029, ln3030, ln3031, ln3032, ln3033, ln3034, ln3035, ln3036, ln3037, ln3038, ln3039, ck_t, nn_s, bn_d, ca_s, cv_s, oc_n, oc_s, cx_i, cx_r, cy_i, cy_r, gI_sI, gI_sP, gI_sA, gI_sR, gI_sJ, gI_nw, gI_nx, gP_sI, gP_sP, gP_sA, gP_sR, gP_sJ, gP_nw, gP_nx, gA_sI, gA_sP, gA_sA, gA_sR, gA_sJ, gA_nw, gA_nx, gR_sI, gR_sP, gR_sA, gR_sR, gR_sJ, gR_nw, gR_nx, reduceCtorEq, Nat.reduceEqDiff, or_self, or_true, true_or, or_false, false_or, eq_self, and_self, and_true, true_and, and_false, false_and, if_true, if_false, ↓reduceIte, ne_eq, not_true_eq_false, not_false_eq_true, zl0, zl1, zl2, zl3, zl4, zl5, zl6, zl7, zl8, zl9, zl10, zl12, zl15, zl16, zl20, zl31, zl32, zl48, zl97, zl99, zl100, zl120, zl127, zl128, zl129, zl130, zl137, zl150, zl160, zl169, zl254, zl255, zl256, zl4000, zl65535, zl65536, if_pos, if_neg, zn_inb, zn_cl, zn_eq, zn_lt, zn_le, zn_add, zn_sub, zn_mul, zn_addn, zn_eqn, zn_neq, zn_nlt, zn_nle, zn_ckb, isB_b2i, b2z0, b2z1, b2it, b2if, M.2, a2]
    · rw [mks]
      refine ⟨R, ?_, rfl⟩
      rw [List.append_nil]; exact h34
  | succ r ih =>
    intro k nf h p L S T R h34 hL hk hn
    obtain ⟨f, rfl⟩ : ∃ f, nf = f + 1 := ⟨nf - 1, by omega⟩
    have hN := T.1
    have M := S.1
    have hn := S.2.2.1
    have h8 := R.1.2.1
    obtain ⟨⟨a1, a2, -⟩, -, -, -, a9⟩ := T.2 q hq
    obtain ⟨c1, c2, c3, c4⟩ := a9 k (by omega)
    have fk := hF2 k (by omega)
    rw [mks]
    have vap : ∀ x : Bool, zI ↑(2 * thV L.reverse + x.toNat) = zI ↑(thV (L ++ [x]).reverse) := fun x => by
      rw [List.reverse_append, List.reverse_singleton, List.singleton_append, thV]; congr 2; omega
    by_cases f0 : tF τ q k = 0
    · rw [if_pos f0]
      have Q : FQ fr h (sA h 3034 fr (zI ↑(2 * thV L.reverse + 1))) := (PQ.rf h).fq _
      have K := FQ.km (m := 0) (u := 0) Q
      obtain ⟨h', e1, Q1, z1⟩ := ih (k + 1) f (sA h 3034 fr (zI ↑(2 * thV L.reverse + 1))) p (L ++ [true]) (K.ms S) (K.mt T) R (by rw [gA_sA, if_pos ⟨rfl, rfl⟩]; exact vap true) (by simp; omega) (by omega) (by omega)
      refine ⟨h', ?_, Q.tr Q1, ?_⟩
      · rw [← e1, fX6_want_382]
        unfold fX6_want_453
        simp (disch := omega) only [mp607, mp608, mp609, mp611, mp612, mp613, mp614, mp615, mp616, mp617, mp618, mp619, mp620, mp621, mp622, mp625, mp626, mp631, mp632, mp633, mp636, mp637, mp638, mp639, mp640, mp641, mp642, mp643, mp645, mp646, mp650, mp651, mp652, mp653, mp654, mp655, mp656, mp657, mp658, ln3001, ln3002, ln3003, ln3004, ln3005, ln3006, ln3007, ln3008, ln3009, ln3010, ln3011, ln3012, ln3013, ln3014, ln3015, ln3016, ln3017, ln3018, ln3019, ln3020, ln3021, ln3022, ln3023, ln3024, ln3025, ln3026, ln3027, ln3028, ln3029, ln3030, ln3031, ln3032, ln3033, ln3034, ln3035, ln3036, ln3037, ln3038, ln3039, ck_t, nn_s, bn_d, ca_s, cv_s, oc_n, oc_s, cx_i, cx_r, cy_i, cy_r, gI_sI, gI_sP, gI_sA, gI_sR, gI_sJ, gI_nw, gI_nx, gP_sI, gP_sP, gP_sA, gP_sR, gP_sJ, gP_nw, gP_nx, gA_sI, gA_sP, gA_sA, gA_sR, gA_sJ, gA_nw, gA_nx, gR_sI, gR_sP, gR_sA, gR_sR, gR_sJ, gR_nw, gR_nx, reduceCtorEq, Nat.reduceEqDiff, or_self, or_true, true_or, or_false, false_or, eq_self, and_self, and_true, true_and, and_false, false_and, if_true, if_false, ↓reduceIte, ne_eq, not_true_eq_false, not_false_eq_true, zl0, zl1, zl2, zl3, zl4, zl5, zl6, zl7, zl8, zl9, zl10, zl12, zl15, zl16, zl20, zl31, zl32, zl48, zl97, zl99, zl100, zl120, zl127, zl128, zl129, zl130, zl137, zl150, zl160, zl169, zl254, zl255, zl256, zl4000, zl65535, zl65536, if_pos, if_neg, zn_inb, zn_cl, zn_eq, zn_lt, zn_le, zn_add, zn_sub, zn_mul, zn_addn, zn_eqn, zn_neq, zn_nlt, zn_nle, zn_ckb, isB_b2i, b2z0, b2z1, b2it, b2if, M.2, a1, a2, k6, h8, Nat.add_sub_cancel, c2, f0, h34]
        rfl
      · cases hm : mks b (8 * n) τ q r (k + 1) p with
        | none => rw [hm] at z1; exact z1
        | some z =>
          obtain ⟨l, p1⟩ := z
          rw [hm] at z1
          exact ⟨z1.1, by rw [z1.2.1, List.append_assoc]; rfl, by rw [List.length_cons, z1.2.2]⟩
    · rw [if_neg f0]
      by_cases c : p + 1 ≤ 8 * n
      · rw [if_pos c]
        have eb := bit_in (F := F) (dd := dd) S R.pg (show p < 8 * n by omega)
        have Q : FQ fr h (sA (sI h 647 3000 (zI ↑(p + 1))) 3034 fr (zI ↑(2 * thV L.reverse + btA b p))) := (PQ.s7 h _).fq _
        have K := FQ.km (m := 0) (u := 0) Q
        have bt := btA_lt b p
        have bb : btA b p = (btA b p == 1).toNat := by
          have : btA b p = 0 ∨ btA b p = 1 := by omega
          rcases this with z | z <;> rw [z] <;> rfl
        have R1 : MK (sA (sI h 647 3000 (zI ↑(p + 1))) 3034 fr (zI ↑(2 * thV L.reverse + btA b p))) n (p + 1) (fr + 1) m u := (PQ.s7 h (zI ↑(p + 1))).mk R ⟨by rw [gI_sI, if_pos ⟨rfl, rfl⟩], by rw [gI_sI, if_neg (by omega)]; exact R.1.2.2.1⟩ (by omega) c
        obtain ⟨h', e1, Q1, z1⟩ := ih (k + 1) f (sA (sI h 647 3000 (zI ↑(p + 1))) 3034 fr (zI ↑(2 * thV L.reverse + btA b p))) (p + 1) (L ++ [btA b p == 1]) (K.ms S) (K.mt T) R1 (by rw [gA_sA, if_pos ⟨rfl, rfl⟩, ← vap, ← bb]) (by simp; omega) (by omega) (by omega)
        refine ⟨h', ?_, Q.tr Q1, ?_⟩
        · rw [← e1, fX6_want_382]
          unfold fX6_want_453
          simp (disch := omega) only [mp607, mp608, mp609, mp611, mp612, mp613, mp614, mp615, mp616, mp617, mp618, mp619, mp620, mp621, mp622, mp625, mp626, mp631, mp632, mp633, mp636, mp637, mp638, mp639, mp640, mp641, mp642, mp643, mp645, mp646, mp650, mp651, mp652, mp653, mp654, mp655, mp656, mp657, mp658, ln3001, ln3002, ln3003, ln3004, ln3005, ln3006, ln3007, ln3008, ln3009, ln3010, ln3011, ln3012, ln3013, ln3014, ln3015, ln3016, ln3017, ln3018, ln3019, ln3020, ln3021, ln3022, ln3023, ln3024, ln3025, ln3026, ln3027, ln3028, ln3029, ln3030, ln3031, ln3032, ln3033, ln3034, ln3035, ln3036, ln3037, ln3038, ln3039, ck_t, nn_s, bn_d, ca_s, cv_s, oc_n, oc_s, cx_i, cx_r, cy_i, cy_r, gI_sI, gI_sP, gI_sA, gI_sR, gI_sJ, gI_nw, gI_nx, gP_sI, gP_sP, gP_sA, gP_sR, gP_sJ, gP_nw, gP_nx, gA_sI, gA_sP, gA_sA, gA_sR, gA_sJ, gA_nw, gA_nx, gR_sI, gR_sP, gR_sA, gR_sR, gR_sJ, gR_nw, gR_nx, reduceCtorEq, Nat.reduceEqDiff, or_self, or_true, true_or, or_false, false_or, eq_self, and_self, and_true, true_and, and_false, false_and, if_true, if_false, ↓reduceIte, ne_eq, not_true_eq_false, not_false_eq_true, zl0, zl1, zl2, zl3, zl4, zl5, zl6, zl7, zl8, zl9, zl10, zl12, zl15, zl16, zl20, zl31, zl32, zl48, zl97, zl99, zl100, zl120, zl127, zl128, zl129, zl130, zl137, zl150, zl160, zl169, zl254, zl255, zl256, zl4000, zl65535, zl65536, if_pos, if_neg, zn_inb, zn_cl, zn_eq, zn_lt, zn_le, zn_add, zn_sub, zn_mul, zn_addn, zn_eqn, zn_neq, zn_nlt, zn_nle, zn_ckb, isB_b2i, b2z0, b2z1, b2it, b2if, M.2, a1, a2, k6, h8, Nat.add_sub_cancel, c2, h34, eb]
          rfl
        · cases hm : mks b (8 * n) τ q r (k + 1) (p + 1) with
          | none => rw [hm] at z1; exact z1
          | some z =>
            obtain ⟨l, p1⟩ := z
            rw [hm] at z1
            exact ⟨z1.1, by rw [z1.2.1, List.append_assoc]; rfl, by rw [List.length_cons, z1.2.2]⟩
      · rw [if_neg c]
        have eb := bit_out (F := F) (dd := dd) S R.pg (show 8 * n ≤ p by omega) (by have := R.2.2.2.2; omega)
        rw [show (0 : Int32) = zI ↑(0 : Nat) from rfl] at eb
        have Q0 : PQ h (sI (sI h 649 3000 (zI ↑(0 : Nat))) 647 3000 (zI ↑(p + 1))) := (PQ.s9 h _).tr (PQ.s7 _ _)
        have Q : FQ fr h (sA (sI (sI h 649 3000 (zI ↑(0 : Nat))) 647 3000 (zI ↑(p + 1))) 3034 fr (zI ↑(2 * thV L.reverse + 0))) := Q0.fq _
        have K := FQ.km (m := 0) (u := 0) Q
        obtain ⟨h', e1, B1, Q1⟩ := mk_b (F := F) (dd := dd) (m0 := m0) hq k6 h6 hF2 (show fr < 159 by omega) r (k + 1) f (sA (sI (sI h 649 3000 (zI ↑(0 : Nat))) 647 3000 (zI ↑(p + 1))) 3034 fr (zI ↑(2 * thV L.reverse + 0))) (K.mp M) (K.mt T) ((Q.2.1 _ _ (by omega)).trans h8) (by unfold Bad; rw [gI_sA, gI_sI, if_neg (by omega), gI_sI, if_pos ⟨rfl, rfl⟩]) (by omega) (by omega)
        refine ⟨h', ?_, Q.tr Q1, B1⟩
        rw [← e1, fX6_want_382]
        unfold fX6_want_453
        simp (disch := omega) only [mp607, mp608, mp609, mp611, mp612, mp613, mp614, mp615, mp616, mp617, mp618, mp619, mp620, mp621, mp622, mp625, mp626, mp631, mp632, mp633, mp636, mp637, mp638, mp639, mp640, mp641, mp642, mp643, mp645, mp646, mp650, mp651, mp652, mp653, mp654, mp655, mp656, mp657, mp658, ln3001, ln3002, ln3003, ln3004, ln3005, ln3006, ln3007, ln3008, ln3009, ln3010, ln3011, ln3012, ln3013, ln3014, ln3015, ln3016, ln3017, ln3018, ln3019, ln3020, ln3021, ln3022, ln3023, ln3024, ln3025, ln3026, ln3027, ln3028, ln3029, ln3030, ln3031, ln3032, ln3033, ln3034, ln3035, ln3036, ln3037, ln3038, ln3039, ck_t, nn_s, bn_d, ca_s, cv_s, oc_n, oc_s, cx_i, cx_r, cy_i, cy_r, gI_sI, gI_sP, gI_sA, gI_sR, gI_sJ, gI_nw, gI_nx, gP_sI, gP_sP, gP_sA, gP_sR, gP_sJ, gP_nw, gP_nx, gA_sI, gA_sP, gA_sA, gA_sR, gA_sJ, gA_nw, gA_nx, gR_sI, gR_sP, gR_sA, gR_sR, gR_sJ, gR_nw, gR_nx, reduceCtorEq, Nat.reduceEqDiff, or_self, or_true, true_or, or_false, false_or, eq_self, and_self, and_true, true_and, and_false, false_and, if_true, if_false, ↓reduceIte, ne_eq, not_true_eq_false, not_false_eq_true, zl0, zl1, zl2, zl3, zl4, zl5, zl6, zl7, zl8, zl9, zl10, zl12, zl15, zl16, zl20, zl31, zl32, zl48, zl97, zl99, zl100, zl120, zl127, zl128, zl129, zl130, zl137, zl150, zl160, zl169, zl254, zl255, zl256, zl4000, zl65535, zl65536, if_pos, if_neg, zn_inb, zn_cl, zn_eq, zn_lt, zn_le, zn_add, zn_sub, zn_mul, zn_addn, zn_eqn, zn_neq, zn_nlt, zn_nle, zn_ckb, isB_b2i, b2z0, b2z1, b2it, b2if, M.2, a1, a2, k6, h8, Nat.add_sub_cancel, c2, h34, eb]
        rfl
end Ms
