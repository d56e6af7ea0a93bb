/-! THE MODEL READS (9): lists, choices, elements -/
set_option maxRecDepth 100000
section El
variable {F dd fr n N j : Nat} {b : Nat → Nat} {τ : Tb} {rl : Int32}
theorem ls_run {h0 : Hp} {t as q m0 u0 e1 e0 d jt jb : Nat} {of : Int32} {lo : Bool} (EO : ElOK F dd rl τ b n N jb d) (hr : ¬ 2 ≤ rl) (ht : t < N) (w : WFt τ jt t) (hj : jt ≤ 12) (hq : bas τ 200 t = q) (wq : WFt τ (jb + 1) q) (k7 : tK τ q = 7) (hm : m0 < 100) (hfr : fr + 1 + jb ≤ 150) (hF : 1000 ≤ F) :
    ∀ (r : Nat) (h : Hp) (a : Nat) (l : List (Nat × Vt d)), GQ b τ n N h0 h t as of q fr m0 u0 a e1 e0 lo l → gA h 3033 fr = zI ↑(0 : Nat) → 102 ≤ r + (m0 + 1 + szs l) → l.length ≤ 100 →
    ∃ h1, fX6_goOn F dd 3000 h = some h1 ∧ RV F dd rl τ t as of h0 h1 a fr m0 u0 e0 (fnG b (okC τ q) q e1 lo l (rdL b τ (fun t a e m => rd b τ d t none a e m) q e1 lo r l.length a (m0 + 1 + szs l))) := by
  intro r
  induction r with
  | zero => intro h a l G _ hl _; have := G.2.2.1.2.2.2.1; omega
  | succ r ih =>
    intro h a l G h33 hl hln
    have w7 := wq.lst k7
    obtain ⟨h', U, hqN, hb, e4⟩ := grp_go (F := F) (dd := dd) G ht w hj hq (Or.inr k7) h33 hm hF
    have G5 := G.km (KM.uw U) (G.2.2.1.uw U)
    have h33' : gA h' 3033 fr = zI ↑(0 : Nat) := by rw [U.2.2.2.2.1 _ _ (by omega) (by omega)]; exact h33
    rw [e4, if_neg (show ¬ tK τ q = 6 by omega), rdL]
    have G0 := G5
    obtain ⟨g1, g2, g3, ⟨g4, g5⟩, g6, g7, g8, g9, g10⟩ := G5
    have hN := g2.1
    obtain ⟨⟨c0, -, -, -, c5⟩, -, c7, c8, c9⟩ := g2.2 q hqN
    have r10 := g3.2.2.2.2.2
    have r8 := g3.2.2.2.1
    have p4 := g8.2.2.2.1
    by_cases ci : isE b a e1 lo = true
    · rw [if_pos ci, if_pos ci]
      have hle : lea b a e1 lo = some (if lo then a + 2 else a) := by unfold lea; rw [if_pos ci]
      have fn : fnG b (okC τ q) q e1 lo l (some ([], a)) = if okC τ q l.length = true then some (mkV q (Int32.ofNat l.length) [] l, if lo then a + 2 else a) else none := by
        unfold fnG
        simp only [List.length_nil, Nat.add_zero, List.append_nil, hle]
      rw [fn]
      have e1' : sI h' 649 3000 (zI ↑(1 : Nat)) = h' := sI_id g3.1.2.2.1
      by_cases cc : okC τ q l.length = true
      · rw [if_pos cc]
        obtain ⟨h2, e2, q2⟩ := mlea_ok (F := F) (d := dd) g1 g3 g7.2 g5 g6 g7.1
        rw [hle] at q2
        have E : fX6_goOn_66 F dd 3000 (zI ↑m0) (zI ↑q) h' = some h2 := by
          unfold fX6_goOn_66 fX6_goOn_107 fX6_goOn_112
          cases w2 : tB τ q with
          | false =>
            rw [w2] at c5
            simp (disch := omega) only [mp607, mp608, mp609, mp611, mp612, mp613, mp614, mp615, mp616, mp617, mp618, mp619, mp620, mp621, mp622, mp625, mp626, mp631, mp632, mp633, mp636, mp637, mp638, mp639, mp640, mp641, mp642, mp643, mp645, mp646, mp650, mp651, mp652, mp653, mp654, mp655, mp656, mp657, mp658, ln3001, ln3002, ln3003, ln3004, ln3005, ln3006, ln3007, ln3008, ln3009, ln3010, ln3011, ln3012, ln3013, ln3014, ln3015, ln3016, ln3017, ln3018, ln3019, ln3020, ln3021, ln3022, ln3023, ln3024, ln3025, ln3026, ln3027, ln3028, ln3029, ln3030, ln3031, ln3032, ln3033, ln3034, ln3035, ln3036, ln3037, ln3038, ln3039, ck_t, nn_s, bn_d, ca_s, cv_s, oc_n, oc_s, cx_i, cx_r, cy_i, cy_r, gI_sI, gI_sP, gI_sA, gI_sR, gI_sJ, gI_nw, gI_nx, gP_sI, gP_sP, gP_sA, gP_sR, gP_sJ, gP_nw, gP_nx, gA_sI, gA_sP, gA_sA, gA_sR, gA_sJ, gA_nw, gA_nx, gR_sI, gR_sP, gR_sA, gR_sR, gR_sJ, gR_nw, gR_nx, reduceCtorEq, Nat.reduceEqDiff, or_self, or_true, true_or, or_false, false_or, eq_self, and_self, and_true, true_and, and_false, false_and, if_true, if_false, ↓reduceIte, ne_eq, not_true_eq_false, not_false_eq_true, zl0, zl1, zl2, zl3, zl4, zl5, zl6, zl7, zl8, zl9, zl10, zl12, zl15, zl16, zl20, zl31, zl32, zl48, zl97, zl99, zl100, zl120, zl127, zl128, zl129, zl130, zl137, zl150, zl160, zl169, zl254, zl255, zl256, zl4000, zl65535, zl65536, if_pos, if_neg, zn_inb, zn_cl, zn_eq, zn_lt, zn_le, zn_add, zn_sub, zn_mul, zn_addn, zn_eqn, zn_neq, zn_nlt, zn_nle, zn_ckb, isB_b2i, b2z0, b2z1, b2it, b2if, g1.1.2, c5, e1', e2]
          | true =>
            rw [w2] at c5
            have c7 := c7 w2
            have : inR (zI ↑l.length) (tLo τ q) (tHi τ q) = true := by have := of_decide_eq_true cc w2; rw [zI_nat] at this; exact this
            simp (disch := omega) only [mp607, mp608, mp609, mp611, mp612, mp613, mp614, mp615, mp616, mp617, mp618, mp619, mp620, mp621, mp622, mp625, mp626, mp631, mp632, mp633, mp636, mp637, mp638, mp639, mp640, mp641, mp642, mp643, mp645, mp646, mp650, mp651, mp652, mp653, mp654, mp655, mp656, mp657, mp658, ln3001, ln3002, ln3003, ln3004, ln3005, ln3006, ln3007, ln3008, ln3009, ln3010, ln3011, ln3012, ln3013, ln3014, ln3015, ln3016, ln3017, ln3018, ln3019, ln3020, ln3021, ln3022, ln3023, ln3024, ln3025, ln3026, ln3027, ln3028, ln3029, ln3030, ln3031, ln3032, ln3033, ln3034, ln3035, ln3036, ln3037, ln3038, ln3039, ck_t, nn_s, bn_d, ca_s, cv_s, oc_n, oc_s, cx_i, cx_r, cy_i, cy_r, gI_sI, gI_sP, gI_sA, gI_sR, gI_sJ, gI_nw, gI_nx, gP_sI, gP_sP, gP_sA, gP_sR, gP_sJ, gP_nw, gP_nx, gA_sI, gA_sP, gA_sA, gA_sR, gA_sJ, gA_nw, gA_nx, gR_sI, gR_sP, gR_sA, gR_sR, gR_sJ, gR_nw, gR_nx, reduceCtorEq, Nat.reduceEqDiff, or_self, or_true, true_or, or_false, false_or, eq_self, and_self, and_true, true_and, and_false, false_and, if_true, if_false, ↓reduceIte, ne_eq, not_true_eq_false, not_false_eq_true, zl0, zl1, zl2, zl3, zl4, zl5, zl6, zl7, zl8, zl9, zl10, zl12, zl15, zl16, zl20, zl31, zl32, zl48, zl97, zl99, zl100, zl120, zl127, zl128, zl129, zl130, zl137, zl150, zl160, zl169, zl254, zl255, zl256, zl4000, zl65535, zl65536, if_pos, if_neg, zn_inb, zn_cl, zn_eq, zn_lt, zn_le, zn_add, zn_sub, zn_mul, zn_addn, zn_eqn, zn_neq, zn_nlt, zn_nle, zn_ckb, isB_b2i, b2z0, b2z1, b2it, b2if, g1.1.2, c5, c7, p4, mem_ok, this, e1', e2]
        rw [E]
        refine ⟨h2, rfl, ?_⟩
        have := (lea_le hle).1
        have K2 := q2.2
        refine ⟨0, h2, fun _ => rfl, ⟨?_, ⟨?_, fun i x hx => (by cases hx), ?_⟩, g10.tr (Nat.le_refl _) (by omega) (by omega) K2⟩, by omega⟩
        · rw [sz_mk, oz_mk, List.length_nil, Nat.zero_add, ← Nat.add_assoc]; exact q2.1
        · show PtI h2 m0 t of as (Int32.ofNat l.length) u0
          rw [zI_nat]; exact g8.km K2 (by omega)
        · show PVs _ l (m0 + 1) (u0 + 0)
          refine PVs.mono _ _ _ (fun p _ j' u' a1 a2 a3 a4 r => ?_) g9
          have := r.km K2 (by omega) (by omega)
          rw [kdT_7 k7] at this
          show PV h2 τ d p.2 j' u' (zI ↑m0) p.1 (kdT τ q (Int32.ofNat l.length) p.1)
          rw [kdT_7 k7]; exact this
      · rw [if_neg cc]
        have wt : tB τ q = true := by
          cases w2 : tB τ q with
          | true => rfl
          | false => exact absurd (decide_eq_true (fun z => by rw [w2] at z; cases z)) cc
        have wi : inR (zI ↑l.length) (tLo τ q) (tHi τ q) = false := by
          cases w2 : inR (zI ↑l.length) (tLo τ q) (tHi τ q) with
          | false => rfl
          | true => exact absurd (decide_eq_true (fun _ => by rw [zI_nat]; exact w2)) cc
        rw [wt] at c5
        have c7 := c7 wt
        obtain ⟨h2, e2, B2⟩ := lf_b (F := F) (dd := dd) (fr := fr) (h := sI h' 649 3000 (zI ↑(0 : Nat))) g1.1 (by unfold Bad; rw [gI_sI, if_pos ⟨rfl, rfl⟩]) (by rw [gI_sI, if_neg (by decide)]; exact g3.1.2.1) (by omega)
        have E : fX6_goOn_66 F dd 3000 (zI ↑m0) (zI ↑q) h' = some h2 := by
          unfold fX6_goOn_66 fX6_goOn_107 fX6_goOn_112
          simp (disch := omega) only [mp607, mp608, mp609, mp611, mp612, mp613, mp614, mp615, mp616, mp617, mp618, mp619, mp620, mp621, mp622, mp625, mp626, mp631, mp632, mp633, mp636, mp637, mp638, mp639, mp640, mp641, mp642, mp643, mp645, mp646, mp650, mp651, mp652, mp653, mp654, mp655, mp656, mp657, mp658, ln3001, ln3002, ln3003, ln3004, ln3005, ln3006, ln3007, ln3008, ln3009, ln3010, ln3011, ln3012, ln3013, ln3014, ln3015, ln3016, ln3017, ln3018, ln3019, ln3020, ln3021, ln3022, ln3023, ln3024, ln3025, ln3026, ln3027, ln3028, ln3029, ln3030, ln3031, ln3032, ln3033, ln3034, ln3035, ln3036, ln3037, ln3038, ln3039, ck_t, nn_s, bn_d, ca_s, cv_s, oc_n, oc_s, cx_i, cx_r, cy_i, cy_r, gI_sI, gI_sP, gI_sA, gI_sR, gI_sJ, gI_nw, gI_nx, gP_sI, gP_sP, gP_sA, gP_sR, gP_sJ, gP_nw, gP_nx, gA_sI, gA_sP, gA_sA, gA_sR, gA_sJ, gA_nw, gA_nx, gR_sI, gR_sP, gR_sA, gR_sR, gR_sJ, gR_nw, gR_nx, reduceCtorEq, Nat.reduceEqDiff, or_self, or_true, true_or, or_false, false_or, eq_self, and_self, and_true, true_and, and_false, false_and, if_true, if_false, ↓reduceIte, ne_eq, not_true_eq_false, not_false_eq_true, zl0, zl1, zl2, zl3, zl4, zl5, zl6, zl7, zl8, zl9, zl10, zl12, zl15, zl16, zl20, zl31, zl32, zl48, zl97, zl99, zl100, zl120, zl127, zl128, zl129, zl130, zl137, zl150, zl160, zl169, zl254, zl255, zl256, zl4000, zl65535, zl65536, if_pos, if_neg, zn_inb, zn_cl, zn_eq, zn_lt, zn_le, zn_add, zn_sub, zn_mul, zn_addn, zn_eqn, zn_neq, zn_nlt, zn_nle, zn_ckb, isB_b2i, b2z0, b2z1, b2it, b2if, g1.1.2, c5, c7, p4, mem_ok, wi, e2]
        rw [E]
        exact ⟨h2, rfl, RV.bad B2 (by omega)⟩
    · rw [if_neg ci, if_neg ci]
      obtain ⟨c1, c2, c3, c4⟩ := c9 0 (by have := c8 (Or.inl k7); omega)
      rw [Nat.add_zero] at c1
      obtain ⟨s1, s2, s3, K0⟩ := G0.set (gA h' 3033 fr) (l.length + 1)
      rw [sA_id (h := h') rfl] at s1 s2 s3 K0
      obtain ⟨h2, e2, k2, h3, r3, p3⟩ := EO (sA h' 3022 m0 (zI ↑(l.length + 1))) a (fr + 1) (m0 + 1 + szs l) (u0 + ozs l) e1 (tC τ q 0) l.length (zI ↑m0) s1 s3 s2 c4 w7.2 g7.2 (by omega)
      have E : fX6_goOn_120 F dd 3000 (zI ↑fr) (zI ↑m0) (zI ↑(0 : Nat)) (zI ↑q) h' = some h2 := by
        unfold fX6_goOn_120
        simp (disch := omega) only [mp607, mp608, mp609, mp611, mp612, mp613, mp614, mp615, mp616, mp617, mp618, mp619, mp620, mp621, mp622, mp625, mp626, mp631, mp632, mp633, mp636, mp637, mp638, mp639, mp640, mp641, mp642, mp643, mp645, mp646, mp650, mp651, mp652, mp653, mp654, mp655, mp656, mp657, mp658, ln3001, ln3002, ln3003, ln3004, ln3005, ln3006, ln3007, ln3008, ln3009, ln3010, ln3011, ln3012, ln3013, ln3014, ln3015, ln3016, ln3017, ln3018, ln3019, ln3020, ln3021, ln3022, ln3023, ln3024, ln3025, ln3026, ln3027, ln3028, ln3029, ln3030, ln3031, ln3032, ln3033, ln3034, ln3035, ln3036, ln3037, ln3038, ln3039, ck_t, nn_s, bn_d, ca_s, cv_s, oc_n, oc_s, cx_i, cx_r, cy_i, cy_r, gI_sI, gI_sP, gI_sA, gI_sR, gI_sJ, gI_nw, gI_nx, gP_sI, gP_sP, gP_sA, gP_sR, gP_sJ, gP_nw, gP_nx, gA_sI, gA_sP, gA_sA, gA_sR, gA_sJ, gA_nw, gA_nx, gR_sI, gR_sP, gR_sA, gR_sR, gR_sJ, gR_nw, gR_nx, reduceCtorEq, Nat.reduceEqDiff, or_self, or_true, true_or, or_false, false_or, eq_self, and_self, and_true, true_and, and_false, false_and, if_true, if_false, ↓reduceIte, ne_eq, not_true_eq_false, not_false_eq_true, zl0, zl1, zl2, zl3, zl4, zl5, zl6, zl7, zl8, zl9, zl10, zl12, zl15, zl16, zl20, zl31, zl32, zl48, zl97, zl99, zl100, zl120, zl127, zl128, zl129, zl130, zl137, zl150, zl160, zl169, zl254, zl255, zl256, zl4000, zl65535, zl65536, if_pos, if_neg, zn_inb, zn_cl, zn_eq, zn_lt, zn_le, zn_add, zn_sub, zn_mul, zn_addn, zn_eqn, zn_neq, zn_nlt, zn_nle, zn_ckb, isB_b2i, b2z0, b2z1, b2it, b2if, g1.1.2, c0, k7, c1, p4, Nat.add_sub_cancel, e2]
      rw [E]
      refine ⟨h2, rfl, ?_⟩
      cases hr1 : rd b τ d (tC τ q 0) none a e1 (m0 + 1 + szs l) with
      | none =>
        rw [hr1] at p3
        exact ⟨k2, h3, r3, p3.1, by omega⟩
      | some z =>
        obtain ⟨v, a1⟩ := z
        rw [hr1] at p3
        obtain ⟨⟨R3, P3, K3⟩, hk3⟩ := p3
        have sv := (rd_le _ _ _ _ _ _ _ _ r10 hr1).2.2.2
        have K3' : KM (fr + 1) (m0 + 1 + szs l) (u0 + ozs l) (sA (sA h' 3033 fr (gA h' 3033 fr)) 3022 m0 (zI ↑(l.length + 1))) h3 := by rw [sA_id (h := h') rfl]; exact K3
        obtain ⟨G4, nx⟩ := G0.kid (k := l.length) (v := v) K3' R3 (by rw [kdT_7 k7]; exact P3)
        have e6 : szs (l ++ [(l.length, v)]) = szs l + sz d v := by rw [szs_app, szs_cons, szs_nil, Nat.add_zero]
        have e7 : (l ++ [(l.length, v)]).length = l.length + 1 := by simp
        have RR := G4.2.2.1
        have lb := RR.2.2.2.1
        have ll : l.length + 1 ≤ 100 := by
          have hp : ∀ (l : List (Nat × Vt d)) (j u : Nat), PVs (fun w j u as => PV h3 τ d w j u (zI ↑m0) as (kdT τ q 0 as)) l j u → l.length ≤ szs l := by
            intro l
            induction l with
            | nil => intro j u _; simp
            | cons x l ihl =>
              intro j u p
              have := ihl _ _ p.2
              have : 1 ≤ sz d x.2 := by
                cases d with
                | zero => exact p.1.elim
                | succ d => rw [sz_s]; omega
              rw [List.length_cons, szs_cons]; omega
          have := hp _ _ _ G4.2.2.2.2.2.2.2.1
          rw [e7] at this
          omega
        obtain ⟨h5, e5, p5⟩ := ih h3 a1 (l ++ [(l.length, v)]) G4 (nx.trans h33') (by rw [e6]; omega) (by rw [e7]; exact ll)
        rw [e7, e6, ← Nat.add_assoc, ← fnG_c] at p5
        refine RV.pre (k1 := k2 + 1) (h1 := h5) (c1 := a1) (fun nf => ?_) p5 (by omega)
        rw [show nf + (k2 + 1) = (nf + 1) + k2 by omega, r3, L_go RR hr, e5, cv_s]
/-- the alternative that begins so -/
theorem alt_lp {h : Hp} {x4 x5 x6 x7 : Int32} {q bit nf0 : Nat} (M : MP h) (T : MT h τ N) (hq : q < N) (hb : gI h 623 3000 = zI ↑q) (w : WFt τ (j + 1) q) (k9 : tK τ q = 9) (hF : 1000 ≤ F) :
    ∀ (r k nf : Nat), k + r = tN τ q → r < nf → fX6_element_186 F dd (fX6_element_12 F dd nf0) nf 3000 x4 x5 x6 x7 (zI ↑bit) (zI ↑k) h = fX6_element_252 F dd (fX6_element_12 F dd nf0) 3000 x4 x5 x6 x7 (zI ↑((alt τ q bit r k).getD (tN τ q))) 3000 (b2i (alt τ q bit r k).isSome) h := by
  have w9 := w.cho k9
  have hN := T.1
  obtain ⟨⟨-, a2, -⟩, -, -, -, a9⟩ := T.2 q hq
  intro r
  induction r with
  | zero =>
    intro k nf hk hn
    obtain ⟨f, rfl⟩ : ∃ f, nf = f + 1 := ⟨nf - 1, by omega⟩
    have : k = tN τ q := by omega
    subst this
    rw [fX6_element_186]
    unfold fX6_element_232
    show _ = fX6_element_252 F dd (fX6_element_12 F dd nf0) 3000 x4 x5 x6 x7 (zI ↑(tN τ q)) 3000 (b2i false) h
    simp (disch := omega) only [mp607, mp608, mp609, mp611, mp612, mp613, mp614, mp615, mp616, mp617, mp618, mp619, mp620, mp621, mp622, mp625, mp626, mp631, mp632, mp633, mp636, mp637, mp638, mp639, mp640, mp641, mp642, mp643, mp645, mp646, mp650, mp651, mp652, mp653, mp654, mp655, mp656, mp657, mp658, ln3001, ln3002, ln3003, ln3004, ln3005, ln3006, ln3007, ln3008, ln3009, ln3010, ln3011, ln3012, ln3013, ln3014, ln3015, ln3016, ln3017, ln3018, ln3019, ln3020, ln3021, ln3022, ln3023, ln3024, ln3025, ln3026, ln3027, ln3028, ln3029, ln3030, ln3031, ln3032, ln3033, ln3034, ln3035, ln3036, ln3037, ln3038, ln3039, ck_t, nn_s, bn_d, ca_s, cv_s, oc_n, oc_s, cx_i, cx_r, cy_i, cy_r, gI_sI, gI_sP, gI_sA, gI_sR, gI_sJ, gI_nw, gI_nx, gP_sI, gP_sP, gP_sA, gP_sR, gP_sJ, gP_nw, gP_nx, gA_sI, gA_sP, gA_sA, gA_sR, gA_sJ, gA_nw, gA_nx, gR_sI, gR_sP, gR_sA, gR_sR, gR_sJ, gR_nw, gR_nx, reduceCtorEq, Nat.reduceEqDiff, or_self, or_true, true_or, or_false, false_or, eq_self, and_self, and_true, true_and, and_false, false_and, if_true, if_false, ↓reduceIte, ne_eq, not_true_eq_false, not_false_eq_true, zl0, zl1, zl2, zl3, zl4, zl5, zl6, zl7, zl8, zl9, zl10, zl12, zl15, zl16, zl20, zl31, zl32, zl48, zl97, zl99, zl100, zl120, zl127, zl128, zl129, zl130, zl137, zl150, zl160, zl169, zl254, zl255, zl256, zl4000, zl65535, zl65536, if_pos, if_neg, zn_inb, zn_cl, zn_eq, zn_lt, zn_le, zn_add, zn_sub, zn_mul, zn_addn, zn_eqn, zn_neq, zn_nlt, zn_nle, zn_ckb, isB_b2i, b2z0, b2z1, b2it, b2if, M.2, hb, a2]
  | succ r ih =>
    intro k nf hk hn
    obtain ⟨f, rfl⟩ : ∃ f, nf = f + 1 := ⟨nf - 1, by omega⟩
    obtain ⟨c1, c2, c3, c4⟩ := a9 k (by omega)
    obtain ⟨⟨-, -, b3, -⟩, -⟩ := T.2 (tC τ q k) c4
    have wk := w9.2.2 k (by omega)
    have bl : tS τ (tC τ q k) &&& bit < 2147483648 := by
      have := tS_lt wk
      have := Nat.and_le_left (n := tS τ (tC τ q k)) (m := bit)
      omega
    rw [fX6_element_186, alt]
    by_cases ct : tS τ (tC τ q k) &&& bit = 0
    · rw [if_neg (show ¬ (tS τ (tC τ q k) &&& bit ≠ 0) from fun y => y ct), ← ih (k + 1) f (by omega) (by omega)]
      simp (disch := omega) only [mp607, mp608, mp609, mp611, mp612, mp613, mp614, mp615, mp616, mp617, mp618, mp619, mp620, mp621, mp622, mp625, mp626, mp631, mp632, mp633, mp636, mp637, mp638, mp639, mp640, mp641, mp642, mp643, mp645, mp646, mp650, mp651, mp652, mp653, mp654, mp655, mp656, mp657, mp658, ln3001, ln3002, ln3003, ln3004, ln3005, ln3006, ln3007, ln3008, ln3009, ln3010, ln3011, ln3012, ln3013, ln3014, ln3015, ln3016, ln3017, ln3018, ln3019, ln3020, ln3021, ln3022, ln3023, ln3024, ln3025, ln3026, ln3027, ln3028, ln3029, ln3030, ln3031, ln3032, ln3033, ln3034, ln3035, ln3036, ln3037, ln3038, ln3039, ck_t, nn_s, bn_d, ca_s, cv_s, oc_n, oc_s, cx_i, cx_r, cy_i, cy_r, gI_sI, gI_sP, gI_sA, gI_sR, gI_sJ, gI_nw, gI_nx, gP_sI, gP_sP, gP_sA, gP_sR, gP_sJ, gP_nw, gP_nx, gA_sI, gA_sP, gA_sA, gA_sR, gA_sJ, gA_nw, gA_nx, gR_sI, gR_sP, gR_sA, gR_sR, gR_sJ, gR_nw, gR_nx, reduceCtorEq, Nat.reduceEqDiff, or_self, or_true, true_or, or_false, false_or, eq_self, and_self, and_true, true_and, and_false, false_and, if_true, if_false, ↓reduceIte, ne_eq, not_true_eq_false, not_false_eq_true, zl0, zl1, zl2, zl3, zl4, zl5, zl6, zl7, zl8, zl9, zl10, zl12, zl15, zl16, zl20, zl31, zl32, zl48, zl97, zl99, zl100, zl120, zl127, zl128, zl129, zl130, zl137, zl150, zl160, zl169, zl254, zl255, zl256, zl4000, zl65535, zl65536, if_pos, if_neg, zn_inb, zn_cl, zn_eq, zn_lt, zn_le, zn_add, zn_sub, zn_mul, zn_addn, zn_eqn, zn_neq, zn_nlt, zn_nle, zn_ckb, isB_b2i, b2z0, b2z1, b2it, b2if, M.2, hb, a2, c1, b3, zI_and, ct]
    · rw [if_pos (show tS τ (tC τ q k) &&& bit ≠ 0 from ct)]
      unfold fX6_element_232
      show _ = fX6_element_252 F dd (fX6_element_12 F dd nf0) 3000 x4 x5 x6 x7 (zI ↑k) 3000 (b2i true) h
      simp (disch := omega) only [mp607, mp608, mp609, mp611, mp612, mp613, mp614, mp615, mp616, mp617, mp618, mp619, mp620, mp621, mp622, mp625, mp626, mp631, mp632, mp633, mp636, mp637, mp638, mp639, mp640, mp641, mp642, mp643, mp645, mp646, mp650, mp651, mp652, mp653, mp654, mp655, mp656, mp657, mp658, ln3001, ln3002, ln3003, ln3004, ln3005, ln3006, ln3007, ln3008, ln3009, ln3010, ln3011, ln3012, ln3013, ln3014, ln3015, ln3016, ln3017, ln3018, ln3019, ln3020, ln3021, ln3022, ln3023, ln3024, ln3025, ln3026, ln3027, ln3028, ln3029, ln3030, ln3031, ln3032, ln3033, ln3034, ln3035, ln3036, ln3037, ln3038, ln3039, ck_t, nn_s, bn_d, ca_s, cv_s, oc_n, oc_s, cx_i, cx_r, cy_i, cy_r, gI_sI, gI_sP, gI_sA, gI_sR, gI_sJ, gI_nw, gI_nx, gP_sI, gP_sP, gP_sA, gP_sR, gP_sJ, gP_nw, gP_nx, gA_sI, gA_sP, gA_sA, gA_sR, gA_sJ, gA_nw, gA_nx, gR_sI, gR_sP, gR_sA, gR_sR, gR_sJ, gR_nw, gR_nx, reduceCtorEq, Nat.reduceEqDiff, or_self, or_true, true_or, or_false, false_or, eq_self, and_self, and_true, true_and, and_false, false_and, if_true, if_false, ↓reduceIte, ne_eq, not_true_eq_false, not_false_eq_true, zl0, zl1, zl2, zl3, zl4, zl5, zl6, zl7, zl8, zl9, zl10, zl12, zl15, zl16, zl20, zl31, zl32, zl48, zl97, zl99, zl100, zl120, zl127, zl128, zl129, zl130, zl137, zl150, zl160, zl169, zl254, zl255, zl256, zl4000, zl65535, zl65536, if_pos, if_neg, zn_inb, zn_cl, zn_eq, zn_lt, zn_le, zn_add, zn_sub, zn_mul, zn_addn, zn_eqn, zn_neq, zn_nlt, zn_nle, zn_ckb, isB_b2i, b2z0, b2z1, b2it, b2if, M.2, hb, a2, c1, b3, zI_and, ct]
end El
