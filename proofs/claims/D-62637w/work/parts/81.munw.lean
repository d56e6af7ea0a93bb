/-! THE MODEL: its table; what a type is around -/
set_option maxRecDepth 100000
/-- the model's table has N rows that are those of τ -/
def MT (h : Hp) (τ : Tb) (N : Nat) : Prop := N ≤ 160 ∧ ∀ t, t < N → (gA h 3004 t = zI ↑(tK τ t) ∧ gA h 3008 t = zI ↑(tN τ t) ∧ gA h 3009 t = zI ↑(tS τ t) ∧ gA h 3010 t = zI ↑(tH τ t) ∧ gA h 3011 t = b2i (tB τ t)) ∧
  (tK τ t = 10 → gA h 3007 t = zI ↑(tG τ t) ∧ gA h 3012 t = b2i (tM τ t)) ∧ (tB τ t = true → gA h 3005 t = tLo τ t ∧ gA h 3006 t = tHi τ t) ∧ (tK τ t = 7 ∨ tK τ t = 10 → tN τ t = 1) ∧
  ∀ k, k < tN τ t → gA h 3013 (6 * t + k) = zI ↑(tC τ t k) ∧ gA h 3014 (6 * t + k) = zI ↑(tF τ t k) ∧ (tF τ t k = 2 → gA h 3015 (6 * t + k) = tD τ t k) ∧ tC τ t k < N
theorem MT.fr {h h' : Hp} {τ : Tb} {N : Nat} (m : MT h τ N) (e : ∀ y i, 3004 ≤ y → y ≤ 3015 → gA h' y i = gA h y i) : MT h' τ N := by
  refine ⟨m.1, fun t ht => ?_⟩
  obtain ⟨⟨a1, a2, a3, a4, a5⟩, a6, a7, a8, a9⟩ := m.2 t ht
  refine ⟨⟨(e _ _ (by omega) (by omega)).trans a1, (e _ _ (by omega) (by omega)).trans a2, (e _ _ (by omega) (by omega)).trans a3, (e _ _ (by omega) (by omega)).trans a4, (e _ _ (by omega) (by omega)).trans a5⟩, fun q => ⟨(e _ _ (by omega) (by omega)).trans (a6 q).1, (e _ _ (by omega) (by omega)).trans (a6 q).2⟩, fun q => ⟨(e _ _ (by omega) (by omega)).trans (a7 q).1, (e _ _ (by omega) (by omega)).trans (a7 q).2⟩, a8, fun k hk => ?_⟩
  obtain ⟨b1, b2, b3, b4⟩ := a9 k hk
  exact ⟨(e _ _ (by omega) (by omega)).trans b1, (e _ _ (by omega) (by omega)).trans b2, fun q => (e _ _ (by omega) (by omega)).trans (b3 q), b4⟩
theorem WFt.kind {τ : Tb} {n t : Nat} (w : WFt τ n t) : tK τ t ≤ 10 ∧ 1 ≤ tK τ t ∧ ¬ tK τ t = 3 ∧ ¬ tK τ t = 8 := by
  cases n with
  | zero => exact w.elim
  | succ n => rcases w with ⟨k, -⟩ | ⟨k, -⟩ | ⟨k, -⟩ | ⟨k, -⟩ | ⟨k, -⟩ | ⟨k, -⟩ | ⟨k, -⟩ | ⟨k, -⟩ <;> omega
section Tg2
variable {τ : Tb}
theorem tgs_nil : ∀ {n t : Nat} {g : Option Nat}, WFt τ n t → (tgs τ n t g = [] ↔ tK τ t = 9) := by
  intro n t g w
  cases n with
  | zero => exact w.elim
  | succ n =>
    by_cases k : tK τ t = 10
    · constructor
      · intro e
        exfalso
        have w2 := (w.tag k).2
        unfold tgs at e
        rw [if_pos k] at e
        split at e
        · next c =>
          have : ∀ (n t : Nat) (g : Option Nat), WFt τ n t → ¬ tK τ t = 9 → tgs τ n t g ≠ [] := by
            intro n
            induction n with
            | zero => intro t g w; exact w.elim
            | succ n ih =>
              intro t g w k9
              by_cases k : tK τ t = 10
              · unfold tgs
                rw [if_pos k]
                split
                · next c => exact ih _ _ (w.tag k).2 c.2
                · simp
              · rw [tgs_ne n t g k k9]; simp
          exact this _ _ _ w2 c.2 e
        · cases e
      · intro e; omega
    · constructor
      · intro e
        rcases Nat.decEq (tK τ t) 9 with z | z
        · rw [tgs_ne n t g k z] at e; cases e
        · exact z
      · intro e; unfold tgs; rw [if_neg k, if_pos e]
/-- with a digit the outermost tag is that one -/
theorem tgs_dig : ∀ {n t : Nat}, WFt τ n t → ∀ {x : Nat} {xs : List Nat}, tgs τ n t none = x :: xs → ∀ g, tgs τ n t (some g) = ((if 0 < xs.length ∨ (6 ≤ tK τ (bas τ n t) ∧ tK τ (bas τ n t) ≤ 9) then 160 else 128) + g) :: xs := by
  intro n
  induction n with
  | zero => intro t w; exact w.elim
  | succ n ih =>
    intro t w x xs e g
    by_cases k : tK τ t = 10
    · have w2 := (w.tag k).2
      have eb : bas τ (n + 1) t = bas τ n (tC τ t 0) := by rw [bas, if_pos k]
      rw [eb]
      unfold tgs at e ⊢
      rw [if_pos k] at e ⊢
      by_cases c : tM τ t = true ∧ tK τ (tC τ t 0) ≠ 9
      · rw [if_pos c] at e ⊢
        cases hz : tgs τ n (tC τ t 0) none with
        | nil => exact absurd ((tgs_nil w2).mp hz) c.2
        | cons y ys =>
          have i1 := ih w2 hz (tG τ t)
          have i2 := ih w2 hz g
          have e2 : tgs τ n (tC τ t 0) (some (tG τ t)) = x :: xs := e
          rw [i1] at e2
          cases e2
          exact i2
      · rw [if_neg c] at e ⊢
        cases e
        have : 0 < (tgs τ n (tC τ t 0) none).length ∨ (6 ≤ tK τ (bas τ n (tC τ t 0)) ∧ tK τ (bas τ n (tC τ t 0)) ≤ 9) := by
          rcases Nat.eq_zero_or_pos (tgs τ n (tC τ t 0) none).length with z | z
          · right
            have k9 := (tgs_nil w2).mp (List.length_eq_zero_iff.mp z)
            rw [bas_ne (by omega)]; omega
          · exact Or.inl z
        rw [if_pos this]
        rfl
    · rw [bas_ne k]
      have k9 : ¬ tK τ t = 9 := by
        intro z
        have := (tgs_nil (g := none) w).mpr z
        rw [this] at e; cases e
      rw [tgs_ne n t none k k9] at e
      rw [tgs_ne n t (some g) k k9]
      cases e
      by_cases c : tK τ t = 6 ∨ tK τ t = 7
      · rw [if_pos c, if_pos (by omega)]
      · have := w.kind
        rw [if_neg c, if_neg (by simp; omega)]
end Tg2
/-- nothing but what unwrap writes has changed; of around no place below x -/
def UW (x : Nat) (h h' : Hp) : Prop := gP h' = gP h ∧ gL h' = gL h ∧ gR h' = gR h ∧ (∀ g y, ¬ (y = 3000 ∧ (g = 623 ∨ g = 624)) → gI h' g y = gI h g y) ∧ (∀ y i, ¬ y = 3016 → ¬ y = 3017 → gA h' y i = gA h y i) ∧ ∀ i, i < x → gA h' 3017 i = gA h 3017 i
theorem UW.tr {x y : Nat} {h1 h2 h3 : Hp} (a : UW x h1 h2) (l : x ≤ y) (b : UW y h2 h3) : UW x h1 h3 :=
  ⟨b.1.trans a.1, b.2.1.trans a.2.1, b.2.2.1.trans a.2.2.1, fun g y q => (b.2.2.2.1 g y q).trans (a.2.2.2.1 g y q), fun y i p q => (b.2.2.2.2.1 y i p q).trans (a.2.2.2.2.1 y i p q), fun i hi => (b.2.2.2.2.2 i (by omega)).trans (a.2.2.2.2.2 i hi)⟩
theorem UW.mp {x : Nat} {h h' : Hp} (a : UW x h h') (m : MP h) : MP h' := by
  unfold MP at m ⊢
  rw [a.1, a.2.1]; exact m
theorem UW.mt {x N : Nat} {τ : Tb} {h h' : Hp} (a : UW x h h') (m : MT h τ N) : MT h' τ N := m.fr fun y i h1 h2 => a.2.2.2.2.1 y i (by omega) (by omega)
/-- the tags of a type, from the inner one to the outer one -/
def TgA (h : Hp) (l : List Nat) : Prop := gI h 624 3000 = zI ↑l.length ∧ ∀ (i x : Nat), l.reverse[i]? = some x → gA h 3016 i = zI ↑x
section Unw
variable {F d : Nat} {τ : Tb} {N : Nat}
theorem mem_ok {h : Hp} (v lo hi : Int32) : fX6_in F d v lo hi h = some (b2i (inR v lo hi), h) := by
  unfold fX6_in inR
  by_cases c1 : lo ≤ v
  · by_cases c2 : v ≤ hi
    · rw [decide_eq_true c1, decide_eq_true c2]
      simp only [Int32.not_lt.mpr c1, Int32.not_lt.mpr c2, c1, c2, if_true, if_false]
      rfl
    · rw [decide_eq_true c1, decide_eq_false c2]
      simp only [Int32.not_lt.mpr c1, Int32.not_le.mp c2, c1, c2, if_true, if_false]
      rfl
  · rw [decide_eq_false c1]
    simp only [Int32.not_le.mp c1, c1, if_true, if_false]
    rfl
theorem TgA.cons {h h2 : Hp} {l : List Nat} {x : Nat} (T : TgA h l) (e1 : gI h2 624 3000 = zI ↑(l.length + 1)) (e2 : ∀ i, i < l.length → gA h2 3016 i = gA h 3016 i) (e3 : gA h2 3016 l.length = zI ↑x) : TgA h2 (x :: l) := by
  refine ⟨by rw [e1]; rfl, fun i y hy => ?_⟩
  rw [List.reverse_cons, List.getElem?_append, List.length_reverse] at hy
  split at hy
  · next c => rw [e2 i c]; exact T.2 i y hy
  · next c =>
    have : i = l.length := by
      rcases Nat.lt_or_ge l.length i with z | z
      · rw [List.getElem?_eq_none (by simp; omega)] at hy; cases hy
      · omega
    subst this
    rw [Nat.sub_self] at hy
    cases hy
    exact e3
theorem TgA.hd {h h2 : Hp} {l : List Nat} {x y : Nat} (T : TgA h (x :: l)) (e1 : gI h2 624 3000 = gI h 624 3000) (e2 : ∀ i, i < l.length → gA h2 3016 i = gA h 3016 i) (e3 : gA h2 3016 l.length = zI ↑y) : TgA h2 (y :: l) := by
  have T0 : TgA (sI h 624 3000 (zI ↑l.length)) l := by
    refine ⟨by rw [gI_sI, if_pos ⟨rfl, rfl⟩], fun i z hz => T.2 i z ?_⟩
    rw [List.reverse_cons, List.getElem?_append_left]
    · exact hz
    · rcases Nat.lt_or_ge i l.reverse.length with q | q
      · exact q
      · rw [List.getElem?_eq_none q] at hz; cases hz
  exact T0.cons (e1.trans T.1) e2 e3
theorem unw_lp : ∀ (n t x2 nf : Nat) (h : Hp), MP h → MT h τ N → t < N → WFt τ n t → x2 + n ≤ 150 → n ≤ 12 → gI h 623 3000 = zI ↑t → n < nf → 100 ≤ F →
    ∃ s h', s ≤ n ∧ fX6_unwrap_7 F d nf 3000 (zI x2) h = fX6_unwrap_102 F d (F - s) 3000 (zI x2) (zI ↑(tK τ (bas τ n t))) h' ∧ UW x2 h h' ∧ TgA h' (tgs τ n t none) ∧ gI h' 623 3000 = zI ↑(bas τ n t) ∧ bas τ n t < N := by
  intro n
  induction n with
  | zero => intro t x2 nf h M T ht w; exact w.elim
  | succ n ih =>
    intro t x2 nf h M T ht w hx hn12 hb hn hF
    cases nf with
    | zero => omega
    | succ nf =>
      obtain ⟨⟨a1, a2, a3, a4, a5⟩, a6, a7, a8, a9⟩ := T.2 t ht
      have wk := w.kind
      have hN := T.1
      rw [fX6_unwrap_7]
      by_cases k : tK τ t = 10
      · obtain ⟨w1, w2⟩ := w.tag k
        have n1 := a8 (Or.inr k)
        obtain ⟨b1, b2, b3, b4⟩ := a9 0 (by omega)
        rw [Nat.add_zero] at b1
        have eb : bas τ (n + 1) t = bas τ n (tC τ t 0) := by rw [bas, if_pos k]
        have e0 : fX6_unwrap_7 F d (nf + 1) 3000 (zI x2) h = fX6_unwrap_7 F d nf 3000 (zI ↑(x2 + 1)) (sI (sA h 3017 x2 (zI ↑t)) 623 3000 (zI ↑(tC τ t 0))) := by
          rw [fX6_unwrap_7]
          simp (disch := omega) only [mp607, mp608, mp609, mp611, mp612, mp613, mp614, mp615, mp616, mp617, mp618, mp619, mp620, mp621, mp622, mp625, mp626, mp631, mp632, mp633, mp636, mp637, mp638, mp639, mp640, mp641, mp642, mp643, mp645, mp646, mp650, mp651, mp652, mp653, mp654, mp655, mp656, mp657, mp658, ln3001, ln3002, ln3003, ln3004, ln3005, ln3006, ln3007, ln3008, ln3009, ln3010, ln3011, ln3012, ln3013, ln3014, ln3015, ln3016, ln3017, ln3018, ln3019, ln3020, ln3021, ln3022, ln3023, ln3024, ln3025, ln3026, ln3027, ln3028, ln3029, ln3030, ln3031, ln3032, ln3033, ln3034, ln3035, ln3036, ln3037, ln3038, ln3039, ck_t, nn_s, bn_d, ca_s, cv_s, oc_n, oc_s, cx_i, cx_r, cy_i, cy_r, gI_sI, gI_sP, gI_sA, gI_sR, gI_sJ, gI_nw, gI_nx, gP_sI, gP_sP, gP_sA, gP_sR, gP_sJ, gP_nw, gP_nx, gA_sI, gA_sP, gA_sA, gA_sR, gA_sJ, gA_nw, gA_nx, gR_sI, gR_sP, gR_sA, gR_sR, gR_sJ, gR_nw, gR_nx, Nat.reduceEqDiff, or_self, or_true, true_or, or_false, false_or, eq_self, and_self, and_true, true_and, and_false, false_and, if_true, if_false, ↓reduceIte, ne_eq, not_true_eq_false, not_false_eq_true, zl0, zl1, zl2, zl3, zl4, zl5, zl6, zl7, zl8, zl9, zl10, zl12, zl15, zl16, zl20, zl31, zl32, zl48, zl97, zl99, zl100, zl120, zl127, zl128, zl129, zl130, zl137, zl150, zl160, zl169, zl254, zl255, zl256, zl4000, zl65535, zl65536, if_pos, if_neg, zn_inb, zn_cl, zn_eq, zn_lt, zn_le, zn_add, zn_sub, zn_mul, zn_addn, zn_eqn, zn_neq, zn_nlt, zn_nle, zn_ckb, isB_b2i, b2z0, b2z1, b2it, b2if, M.2, hb, a1, k, b1]
        rw [← fX6_unwrap_7, e0, eb]
        have U1 : UW x2 h (sI (sA h 3017 x2 (zI ↑t)) 623 3000 (zI ↑(tC τ t 0))) :=
          ⟨rfl, rfl, rfl, fun g y q => by rw [gI_sI, if_neg (fun z => q ⟨z.2, Or.inl z.1⟩)]; rfl, fun y i p q => by rw [gA_sI, gA_sA, if_neg (fun z => q z.1)], fun i hi => by rw [gA_sI, gA_sA, if_neg (by omega)]⟩
        obtain ⟨s, h', hs, e1, U, TA, hb2, hlt⟩ := ih (tC τ t 0) (x2 + 1) nf (sI (sA h 3017 x2 (zI ↑t)) 623 3000 (zI ↑(tC τ t 0))) (U1.mp M) (U1.mt T) b4 w2 (by omega) (by omega) (by rw [gI_sI, if_pos ⟨rfl, rfl⟩]) (by omega) hF
        rw [e1]
        obtain ⟨f, hf⟩ : ∃ f, F - s = f + 1 := ⟨F - s - 1, by omega⟩
        have U2 := U1.tr (Nat.le_succ x2) U
        have M' := U2.mp M
        have T' := U2.mt T
        obtain ⟨⟨c1, c2, c3, c4, c5⟩, c6, -⟩ := T'.2 t ht
        obtain ⟨c6, c7⟩ := c6 k
        have ar : gA h' 3017 x2 = zI ↑t := by rw [U.2.2.2.2.2 x2 (by omega), gA_sI, gA_sA, if_pos ⟨rfl, rfl⟩]
        have ln := tgs_cnt (τ := τ) none w2
        obtain ⟨jb, j1, j2, j3, j4⟩ := ln
        have kb := j2.kind
        have tl := TA.1
        generalize hK : tK τ (bas τ n (tC τ t 0)) = K at *
        generalize hL : tgs τ n (tC τ t 0) none = L at *
        have E1 : fX6_unwrap_102 F d (f + 1) 3000 (zI ↑(x2 + 1)) (zI ↑K) h' = fX6_unwrap_146 F d (fX6_unwrap_102 F d f) 3000 (zI x2) (zI ↑K) (zI ↑(tG τ t)) (b2i (decide (1 < L.length ∨ (6 ≤ K ∧ K ≤ 9)))) h' := by
          rw [fX6_unwrap_102]
          simp (disch := omega) only [mp607, mp608, mp609, mp611, mp612, mp613, mp614, mp615, mp616, mp617, mp618, mp619, mp620, mp621, mp622, mp625, mp626, mp631, mp632, mp633, mp636, mp637, mp638, mp639, mp640, mp641, mp642, mp643, mp645, mp646, mp650, mp651, mp652, mp653, mp654, mp655, mp656, mp657, mp658, ln3001, ln3002, ln3003, ln3004, ln3005, ln3006, ln3007, ln3008, ln3009, ln3010, ln3011, ln3012, ln3013, ln3014, ln3015, ln3016, ln3017, ln3018, ln3019, ln3020, ln3021, ln3022, ln3023, ln3024, ln3025, ln3026, ln3027, ln3028, ln3029, ln3030, ln3031, ln3032, ln3033, ln3034, ln3035, ln3036, ln3037, ln3038, ln3039, ck_t, nn_s, bn_d, ca_s, cv_s, oc_n, oc_s, cx_i, cx_r, cy_i, cy_r, gI_sI, gI_sP, gI_sA, gI_sR, gI_sJ, gI_nw, gI_nx, gP_sI, gP_sP, gP_sA, gP_sR, gP_sJ, gP_nw, gP_nx, gA_sI, gA_sP, gA_sA, gA_sR, gA_sJ, gA_nw, gA_nx, gR_sI, gR_sP, gR_sA, gR_sR, gR_sJ, gR_nw, gR_nx, Nat.reduceEqDiff, or_self, or_true, true_or, or_false, false_or, eq_self, and_self, and_true, true_and, and_false, false_and, if_true, if_false, ↓reduceIte, ne_eq, not_true_eq_false, not_false_eq_true, zl0, zl1, zl2, zl3, zl4, zl5, zl6, zl7, zl8, zl9, zl10, zl12, zl15, zl16, zl20, zl31, zl32, zl48, zl97, zl99, zl100, zl120, zl127, zl128, zl129, zl130, zl137, zl150, zl160, zl169, zl254, zl255, zl256, zl4000, zl65535, zl65536, if_pos, if_neg, zn_inb, zn_cl, zn_eq, zn_lt, zn_le, zn_add, zn_sub, zn_mul, zn_addn, zn_eqn, zn_neq, zn_nlt, zn_nle, zn_ckb, isB_b2i, b2z0, b2z1, b2it, b2if, M'.2, Nat.add_sub_cancel, ar, c6, tl, mem_ok]
          by_cases z1 : 1 < L.length
          · rw [if_pos z1, decide_eq_true (Or.inl z1)]; rfl
          · rw [if_neg z1, inR_out (by omega) (by omega) (by omega)]
            by_cases z2 : 6 ≤ K ∧ K ≤ 9
            · rw [decide_eq_true z2, if_neg (by decide), decide_eq_true (Or.inr z2)]; rfl
            · rw [decide_eq_false z2, if_pos rfl, decide_eq_false (by omega)]; rfl
        rw [hf, E1]
        have tg : tgs τ (n + 1) t none = if tM τ t = true ∧ tK τ (tC τ t 0) ≠ 9 then tgs τ n (tC τ t 0) (some (tG τ t)) else (160 + tG τ t) :: L := by
          rw [tgs, if_pos k, hL]; rfl
        rw [tg]
        by_cases c : tM τ t = true ∧ tK τ (tC τ t 0) ≠ 9
        · rw [if_pos c]
          cases L with
          | nil => exact absurd ((tgs_nil w2).mp hL) c.2
          | cons y ys =>
            rw [tgs_dig w2 hL, hK]
            rw [List.length_cons] at tl j4
            have mk : ∃ mk : Nat, mk = (if 0 < ys.length ∨ (6 ≤ K ∧ K ≤ 9) then 160 else 128) ∧ fX6_unwrap_146 F d (fX6_unwrap_102 F d f) 3000 (zI x2) (zI ↑K) (zI ↑(tG τ t)) (b2i (decide (1 < (y :: ys).length ∨ (6 ≤ K ∧ K ≤ 9)))) h' = fX6_unwrap_102 F d f 3000 (zI x2) (zI ↑K) (sA h' 3016 ys.length (zI ↑(mk + tG τ t))) := by
              refine ⟨_, rfl, ?_⟩
              unfold fX6_unwrap_146 fX6_unwrap_193 fX6_unwrap_225
              by_cases z : 0 < ys.length ∨ (6 ≤ K ∧ K ≤ 9)
              · rw [if_pos z, decide_eq_true (show 1 < (y :: ys).length ∨ (6 ≤ K ∧ K ≤ 9) by rw [List.length_cons]; omega)]
                simp (disch := omega) only [mp607, mp608, mp609, mp611, mp612, mp613, mp614, mp615, mp616, mp617, mp618, mp619, mp620, mp621, mp622, mp625, mp626, mp631, mp632, mp633, mp636, mp637, mp638, mp639, mp640, mp641, mp642, mp643, mp645, mp646, mp650, mp651, mp652, mp653, mp654, mp655, mp656, mp657, mp658, ln3001, ln3002, ln3003, ln3004, ln3005, ln3006, ln3007, ln3008, ln3009, ln3010, ln3011, ln3012, ln3013, ln3014, ln3015, ln3016, ln3017, ln3018, ln3019, ln3020, ln3021, ln3022, ln3023, ln3024, ln3025, ln3026, ln3027, ln3028, ln3029, ln3030, ln3031, ln3032, ln3033, ln3034, ln3035, ln3036, ln3037, ln3038, ln3039, ck_t, nn_s, bn_d, ca_s, cv_s, oc_n, oc_s, cx_i, cx_r, cy_i, cy_r, gI_sI, gI_sP, gI_sA, gI_sR, gI_sJ, gI_nw, gI_nx, gP_sI, gP_sP, gP_sA, gP_sR, gP_sJ, gP_nw, gP_nx, gA_sI, gA_sP, gA_sA, gA_sR, gA_sJ, gA_nw, gA_nx, gR_sI, gR_sP, gR_sA, gR_sR, gR_sJ, gR_nw, gR_nx, Nat.reduceEqDiff, or_self, or_true, true_or, or_false, false_or, eq_self, and_self, and_true, true_and, and_false, false_and, if_true, if_false, ↓reduceIte, ne_eq, not_true_eq_false, not_false_eq_true, zl0, zl1, zl2, zl3, zl4, zl5, zl6, zl7, zl8, zl9, zl10, zl12, zl15, zl16, zl20, zl31, zl32, zl48, zl97, zl99, zl100, zl120, zl127, zl128, zl129, zl130, zl137, zl150, zl160, zl169, zl254, zl255, zl256, zl4000, zl65535, zl65536, if_pos, if_neg, zn_inb, zn_cl, zn_eq, zn_lt, zn_le, zn_add, zn_sub, zn_mul, zn_addn, zn_eqn, zn_neq, zn_nlt, zn_nle, zn_ckb, isB_b2i, b2z0, b2z1, b2it, b2if, M'.2, ar, c7, c.1, tl, Nat.add_sub_cancel]
              · rw [if_neg z, decide_eq_false (show ¬ (1 < (y :: ys).length ∨ (6 ≤ K ∧ K ≤ 9)) by rw [List.length_cons]; omega)]
                simp (disch := omega) only [mp607, mp608, mp609, mp611, mp612, mp613, mp614, mp615, mp616, mp617, mp618, mp619, mp620, mp621, mp622, mp625, mp626, mp631, mp632, mp633, mp636, mp637, mp638, mp639, mp640, mp641, mp642, mp643, mp645, mp646, mp650, mp651, mp652, mp653, mp654, mp655, mp656, mp657, mp658, ln3001, ln3002, ln3003, ln3004, ln3005, ln3006, ln3007, ln3008, ln3009, ln3010, ln3011, ln3012, ln3013, ln3014, ln3015, ln3016, ln3017, ln3018, ln3019, ln3020, ln3021, ln3022, ln3023, ln3024, ln3025, ln3026, ln3027, ln3028, ln3029, ln3030, ln3031, ln3032, ln3033, ln3034, ln3035, ln3036, ln3037, ln3038, ln3039, ck_t, nn_s, bn_d, ca_s, cv_s, oc_n, oc_s, cx_i, cx_r, cy_i, cy_r, gI_sI, gI_sP, gI_sA, gI_sR, gI_sJ, gI_nw, gI_nx, gP_sI, gP_sP, gP_sA, gP_sR, gP_sJ, gP_nw, gP_nx, gA_sI, gA_sP, gA_sA, gA_sR, gA_sJ, gA_nw, gA_nx, gR_sI, gR_sP, gR_sA, gR_sR, gR_sJ, gR_nw, gR_nx, Nat.reduceEqDiff, or_self, or_true, true_or, or_false, false_or, eq_self, and_self, and_true, true_and, and_false, false_and, if_true, if_false, ↓reduceIte, ne_eq, not_true_eq_false, not_false_eq_true, zl0, zl1, zl2, zl3, zl4, zl5, zl6, zl7, zl8, zl9, zl10, zl12, zl15, zl16, zl20, zl31, zl32, zl48, zl97, zl99, zl100, zl120, zl127, zl128, zl129, zl130, zl137, zl150, zl160, zl169, zl254, zl255, zl256, zl4000, zl65535, zl65536, if_pos, if_neg, zn_inb, zn_cl, zn_eq, zn_lt, zn_le, zn_add, zn_sub, zn_mul, zn_addn, zn_eqn, zn_neq, zn_nlt, zn_nle, zn_ckb, isB_b2i, b2z0, b2z1, b2it, b2if, M'.2, ar, c7, c.1, tl, Nat.add_sub_cancel]
            obtain ⟨mk, e3, e4⟩ := mk
            rw [e4, ← e3]
            refine ⟨s + 1, sA h' 3016 ys.length (zI ↑(mk + tG τ t)), by omega, by rw [show F - (s + 1) = f by omega], U2.tr (Nat.le_refl _) ⟨rfl, rfl, rfl, fun _ _ _ => rfl, fun y i p q => by rw [gA_sA, if_neg (fun z => p z.1)], fun i hi => by rw [gA_sA, if_neg (by omega)]⟩, TA.hd rfl (fun i hi => by rw [gA_sA, if_neg (by omega)]) (by rw [gA_sA, if_pos ⟨rfl, rfl⟩]), hb2, hlt⟩
        · rw [if_neg c]
          have e4 : fX6_unwrap_146 F d (fX6_unwrap_102 F d f) 3000 (zI x2) (zI ↑K) (zI ↑(tG τ t)) (b2i (decide (1 < L.length ∨ (6 ≤ K ∧ K ≤ 9)))) h' = fX6_unwrap_102 F d f 3000 (zI x2) (zI ↑K) (sI (sA h' 3016 L.length (zI ↑(160 + tG τ t))) 624 3000 (zI ↑(L.length + 1))) := by
            have e200 : fX6_unwrap_200 F d (fX6_unwrap_102 F d f) 3000 (zI x2) (zI ↑K) (zI ↑(tG τ t)) h' = fX6_unwrap_102 F d f 3000 (zI x2) (zI ↑K) (sI (sA h' 3016 L.length (zI ↑(160 + tG τ t))) 624 3000 (zI ↑(L.length + 1))) := by
              unfold fX6_unwrap_200 fX6_unwrap_225
              simp (disch := omega) only [mp607, mp608, mp609, mp611, mp612, mp613, mp614, mp615, mp616, mp617, mp618, mp619, mp620, mp621, mp622, mp625, mp626, mp631, mp632, mp633, mp636, mp637, mp638, mp639, mp640, mp641, mp642, mp643, mp645, mp646, mp650, mp651, mp652, mp653, mp654, mp655, mp656, mp657, mp658, ln3001, ln3002, ln3003, ln3004, ln3005, ln3006, ln3007, ln3008, ln3009, ln3010, ln3011, ln3012, ln3013, ln3014, ln3015, ln3016, ln3017, ln3018, ln3019, ln3020, ln3021, ln3022, ln3023, ln3024, ln3025, ln3026, ln3027, ln3028, ln3029, ln3030, ln3031, ln3032, ln3033, ln3034, ln3035, ln3036, ln3037, ln3038, ln3039, ck_t, nn_s, bn_d, ca_s, cv_s, oc_n, oc_s, cx_i, cx_r, cy_i, cy_r, gI_sI, gI_sP, gI_sA, gI_sR, gI_sJ, gI_nw, gI_nx, gP_sI, gP_sP, gP_sA, gP_sR, gP_sJ, gP_nw, gP_nx, gA_sI, gA_sP, gA_sA, gA_sR, gA_sJ, gA_nw, gA_nx, gR_sI, gR_sP, gR_sA, gR_sR, gR_sJ, gR_nw, gR_nx, Nat.reduceEqDiff, or_self, or_true, true_or, or_false, false_or, eq_self, and_self, and_true, true_and, and_false, false_and, if_true, if_false, ↓reduceIte, ne_eq, not_true_eq_false, not_false_eq_true, zl0, zl1, zl2, zl3, zl4, zl5, zl6, zl7, zl8, zl9, zl10, zl12, zl15, zl16, zl20, zl31, zl32, zl48, zl97, zl99, zl100, zl120, zl127, zl128, zl129, zl130, zl137, zl150, zl160, zl169, zl254, zl255, zl256, zl4000, zl65535, zl65536, if_pos, if_neg, zn_inb, zn_cl, zn_eq, zn_lt, zn_le, zn_add, zn_sub, zn_mul, zn_addn, zn_eqn, zn_neq, zn_nlt, zn_nle, zn_ckb, isB_b2i, b2z0, b2z1, b2it, b2if, M'.2, tl]
            unfold fX6_unwrap_146
            by_cases z : tM τ t = false
            · simp (disch := omega) only [mp607, mp608, mp609, mp611, mp612, mp613, mp614, mp615, mp616, mp617, mp618, mp619, mp620, mp621, mp622, mp625, mp626, mp631, mp632, mp633, mp636, mp637, mp638, mp639, mp640, mp641, mp642, mp643, mp645, mp646, mp650, mp651, mp652, mp653, mp654, mp655, mp656, mp657, mp658, ln3001, ln3002, ln3003, ln3004, ln3005, ln3006, ln3007, ln3008, ln3009, ln3010, ln3011, ln3012, ln3013, ln3014, ln3015, ln3016, ln3017, ln3018, ln3019, ln3020, ln3021, ln3022, ln3023, ln3024, ln3025, ln3026, ln3027, ln3028, ln3029, ln3030, ln3031, ln3032, ln3033, ln3034, ln3035, ln3036, ln3037, ln3038, ln3039, ck_t, nn_s, bn_d, ca_s, cv_s, oc_n, oc_s, cx_i, cx_r, cy_i, cy_r, gI_sI, gI_sP, gI_sA, gI_sR, gI_sJ, gI_nw, gI_nx, gP_sI, gP_sP, gP_sA, gP_sR, gP_sJ, gP_nw, gP_nx, gA_sI, gA_sP, gA_sA, gA_sR, gA_sJ, gA_nw, gA_nx, gR_sI, gR_sP, gR_sA, gR_sR, gR_sJ, gR_nw, gR_nx, Nat.reduceEqDiff, or_self, or_true, true_or, or_false, false_or, eq_self, and_self, and_true, true_and, and_false, false_and, if_true, if_false, ↓reduceIte, ne_eq, not_true_eq_false, not_false_eq_true, zl0, zl1, zl2, zl3, zl4, zl5, zl6, zl7, zl8, zl9, zl10, zl12, zl15, zl16, zl20, zl31, zl32, zl48, zl97, zl99, zl100, zl120, zl127, zl128, zl129, zl130, zl137, zl150, zl160, zl169, zl254, zl255, zl256, zl4000, zl65535, zl65536, if_pos, if_neg, zn_inb, zn_cl, zn_eq, zn_lt, zn_le, zn_add, zn_sub, zn_mul, zn_addn, zn_eqn, zn_neq, zn_nlt, zn_nle, zn_ckb, isB_b2i, b2z0, b2z1, b2it, b2if, M'.2, ar, c7, tl, z]; exact e200
            · have k9 : tK τ (tC τ t 0) = 9 := by
                rcases Nat.decEq (tK τ (tC τ t 0)) 9 with y | y
                · exact absurd ⟨by simpa using z, y⟩ c
                · exact y
              have e0 : L.length = 0 := by rw [← hL, (tgs_nil w2).mpr k9]; rfl
              have z1 : tM τ t = true := by simpa using z
              simp (disch := omega) only [mp607, mp608, mp609, mp611, mp612, mp613, mp614, mp615, mp616, mp617, mp618, mp619, mp620, mp621, mp622, mp625, mp626, mp631, mp632, mp633, mp636, mp637, mp638, mp639, mp640, mp641, mp642, mp643, mp645, mp646, mp650, mp651, mp652, mp653, mp654, mp655, mp656, mp657, mp658, ln3001, ln3002, ln3003, ln3004, ln3005, ln3006, ln3007, ln3008, ln3009, ln3010, ln3011, ln3012, ln3013, ln3014, ln3015, ln3016, ln3017, ln3018, ln3019, ln3020, ln3021, ln3022, ln3023, ln3024, ln3025, ln3026, ln3027, ln3028, ln3029, ln3030, ln3031, ln3032, ln3033, ln3034, ln3035, ln3036, ln3037, ln3038, ln3039, ck_t, nn_s, bn_d, ca_s, cv_s, oc_n, oc_s, cx_i, cx_r, cy_i, cy_r, gI_sI, gI_sP, gI_sA, gI_sR, gI_sJ, gI_nw, gI_nx, gP_sI, gP_sP, gP_sA, gP_sR, gP_sJ, gP_nw, gP_nx, gA_sI, gA_sP, gA_sA, gA_sR, gA_sJ, gA_nw, gA_nx, gR_sI, gR_sP, gR_sA, gR_sR, gR_sJ, gR_nw, gR_nx, Nat.reduceEqDiff, or_self, or_true, true_or, or_false, false_or, eq_self, and_self, and_true, true_and, and_false, false_and, if_true, if_false, ↓reduceIte, ne_eq, not_true_eq_false, not_false_eq_true, zl0, zl1, zl2, zl3, zl4, zl5, zl6, zl7, zl8, zl9, zl10, zl12, zl15, zl16, zl20, zl31, zl32, zl48, zl97, zl99, zl100, zl120, zl127, zl128, zl129, zl130, zl137, zl150, zl160, zl169, zl254, zl255, zl256, zl4000, zl65535, zl65536, if_pos, if_neg, zn_inb, zn_cl, zn_eq, zn_lt, zn_le, zn_add, zn_sub, zn_mul, zn_addn, zn_eqn, zn_neq, zn_nlt, zn_nle, zn_ckb, isB_b2i, b2z0, b2z1, b2it, b2if, M'.2, ar, c7, tl, z1]; exact e200
          rw [e4]
          refine ⟨s + 1, sI (sA h' 3016 L.length (zI ↑(160 + tG τ t))) 624 3000 (zI ↑(L.length + 1)), by omega, by rw [show F - (s + 1) = f by omega], U2.tr (Nat.le_refl _) ⟨rfl, rfl, rfl, fun g y q => by rw [gI_sI, if_neg (fun z => q ⟨z.2, Or.inr z.1⟩)]; rfl, fun y i p q => by rw [gA_sI, gA_sA, if_neg (fun z => p z.1)], fun i hi => by rw [gA_sI, gA_sA, if_neg (by omega)]⟩, TA.cons (by rw [gI_sI, if_pos ⟨rfl, rfl⟩]) (fun i hi => by rw [gA_sI, gA_sA, if_neg (by omega)]) (by rw [gA_sI, gA_sA, if_pos ⟨rfl, rfl⟩]), by rw [gI_sI, if_neg (by decide)]; exact hb2, hlt⟩
      · rw [bas_ne k]
        refine ⟨0, (sA (sI h 624 3000 (if tK τ t = 9 then 0 else 1)) 3016 0 (if tK τ t = 6 ∨ tK τ t = 7 then 48 else zI ↑(tK τ t))), by omega, ?_, ⟨rfl, rfl, rfl, fun g y q => by rw [gI_sA, gI_sI, if_neg (fun z => q ⟨z.2, Or.inr z.1⟩)], fun y i p q => by rw [gA_sA, if_neg (fun z => p z.1)]; rfl, fun i hi => by rw [gA_sA, if_neg (by omega)]; rfl⟩, ?_, by rw [gI_sA, gI_sI, if_neg (by decide)]; exact hb, ht⟩
        · unfold fX6_unwrap_75 fX6_unwrap_95 fX6_unwrap_101
          by_cases k9 : tK τ t = 9
          · simp (disch := omega) only [mp607, mp608, mp609, mp611, mp612, mp613, mp614, mp615, mp616, mp617, mp618, mp619, mp620, mp621, mp622, mp625, mp626, mp631, mp632, mp633, mp636, mp637, mp638, mp639, mp640, mp641, mp642, mp643, mp645, mp646, mp650, mp651, mp652, mp653, mp654, mp655, mp656, mp657, mp658, ln3001, ln3002, ln3003, ln3004, ln3005, ln3006, ln3007, ln3008, ln3009, ln3010, ln3011, ln3012, ln3013, ln3014, ln3015, ln3016, ln3017, ln3018, ln3019, ln3020, ln3021, ln3022, ln3023, ln3024, ln3025, ln3026, ln3027, ln3028, ln3029, ln3030, ln3031, ln3032, ln3033, ln3034, ln3035, ln3036, ln3037, ln3038, ln3039, ck_t, nn_s, bn_d, ca_s, cv_s, oc_n, oc_s, cx_i, cx_r, cy_i, cy_r, gI_sI, gI_sP, gI_sA, gI_sR, gI_sJ, gI_nw, gI_nx, gP_sI, gP_sP, gP_sA, gP_sR, gP_sJ, gP_nw, gP_nx, gA_sI, gA_sP, gA_sA, gA_sR, gA_sJ, gA_nw, gA_nx, gR_sI, gR_sP, gR_sA, gR_sR, gR_sJ, gR_nw, gR_nx, Nat.reduceEqDiff, or_self, or_true, true_or, or_false, false_or, eq_self, and_self, and_true, true_and, and_false, false_and, if_true, if_false, ↓reduceIte, ne_eq, not_true_eq_false, not_false_eq_true, zl0, zl1, zl2, zl3, zl4, zl5, zl6, zl7, zl8, zl9, zl10, zl12, zl15, zl16, zl20, zl31, zl32, zl48, zl97, zl99, zl100, zl120, zl127, zl128, zl129, zl130, zl137, zl150, zl160, zl169, zl254, zl255, zl256, zl4000, zl65535, zl65536, if_pos, if_neg, zn_inb, zn_cl, zn_eq, zn_lt, zn_le, zn_add, zn_sub, zn_mul, zn_addn, zn_eqn, zn_neq, zn_nlt, zn_nle, zn_ckb, isB_b2i, b2z0, b2z1, b2it, b2if, M.2, hb, a1, k9, Nat.sub_zero]
          · by_cases k6 : tK τ t = 6
            · simp (disch := omega) only [mp607, mp608, mp609, mp611, mp612, mp613, mp614, mp615, mp616, mp617, mp618, mp619, mp620, mp621, mp622, mp625, mp626, mp631, mp632, mp633, mp636, mp637, mp638, mp639, mp640, mp641, mp642, mp643, mp645, mp646, mp650, mp651, mp652, mp653, mp654, mp655, mp656, mp657, mp658, ln3001, ln3002, ln3003, ln3004, ln3005, ln3006, ln3007, ln3008, ln3009, ln3010, ln3011, ln3012, ln3013, ln3014, ln3015, ln3016, ln3017, ln3018, ln3019, ln3020, ln3021, ln3022, ln3023, ln3024, ln3025, ln3026, ln3027, ln3028, ln3029, ln3030, ln3031, ln3032, ln3033, ln3034, ln3035, ln3036, ln3037, ln3038, ln3039, ck_t, nn_s, bn_d, ca_s, cv_s, oc_n, oc_s, cx_i, cx_r, cy_i, cy_r, gI_sI, gI_sP, gI_sA, gI_sR, gI_sJ, gI_nw, gI_nx, gP_sI, gP_sP, gP_sA, gP_sR, gP_sJ, gP_nw, gP_nx, gA_sI, gA_sP, gA_sA, gA_sR, gA_sJ, gA_nw, gA_nx, gR_sI, gR_sP, gR_sA, gR_sR, gR_sJ, gR_nw, gR_nx, Nat.reduceEqDiff, or_self, or_true, true_or, or_false, false_or, eq_self, and_self, and_true, true_and, and_false, false_and, if_true, if_false, ↓reduceIte, ne_eq, not_true_eq_false, not_false_eq_true, zl0, zl1, zl2, zl3, zl4, zl5, zl6, zl7, zl8, zl9, zl10, zl12, zl15, zl16, zl20, zl31, zl32, zl48, zl97, zl99, zl100, zl120, zl127, zl128, zl129, zl130, zl137, zl150, zl160, zl169, zl254, zl255, zl256, zl4000, zl65535, zl65536, if_pos, if_neg, zn_inb, zn_cl, zn_eq, zn_lt, zn_le, zn_add, zn_sub, zn_mul, zn_addn, zn_eqn, zn_neq, zn_nlt, zn_nle, zn_ckb, isB_b2i, b2z0, b2z1, b2it, b2if, M.2, hb, a1, k6, Nat.sub_zero, true_or]
            · by_cases k7 : tK τ t = 7
              · simp (disch := omega) only [mp607, mp608, mp609, mp611, mp612, mp613, mp614, mp615, mp616, mp617, mp618, mp619, mp620, mp621, mp622, mp625, mp626, mp631, mp632, mp633, mp636, mp637, mp638, mp639, mp640, mp641, mp642, mp643, mp645, mp646, mp650, mp651, mp652, mp653, mp654, mp655, mp656, mp657, mp658, ln3001, ln3002, ln3003, ln3004, ln3005, ln3006, ln3007, ln3008, ln3009, ln3010, ln3011, ln3012, ln3013, ln3014, ln3015, ln3016, ln3017, ln3018, ln3019, ln3020, ln3021, ln3022, ln3023, ln3024, ln3025, ln3026, ln3027, ln3028, ln3029, ln3030, ln3031, ln3032, ln3033, ln3034, ln3035, ln3036, ln3037, ln3038, ln3039, ck_t, nn_s, bn_d, ca_s, cv_s, oc_n, oc_s, cx_i, cx_r, cy_i, cy_r, gI_sI, gI_sP, gI_sA, gI_sR, gI_sJ, gI_nw, gI_nx, gP_sI, gP_sP, gP_sA, gP_sR, gP_sJ, gP_nw, gP_nx, gA_sI, gA_sP, gA_sA, gA_sR, gA_sJ, gA_nw, gA_nx, gR_sI, gR_sP, gR_sA, gR_sR, gR_sJ, gR_nw, gR_nx, Nat.reduceEqDiff, or_self, or_true, true_or, or_false, false_or, eq_self, and_self, and_true, true_and, and_false, false_and, if_true, if_false, ↓reduceIte, ne_eq, not_true_eq_false, not_false_eq_true, zl0, zl1, zl2, zl3, zl4, zl5, zl6, zl7, zl8, zl9, zl10, zl12, zl15, zl16, zl20, zl31, zl32, zl48, zl97, zl99, zl100, zl120, zl127, zl128, zl129, zl130, zl137, zl150, zl160, zl169, zl254, zl255, zl256, zl4000, zl65535, zl65536, if_pos, if_neg, zn_inb, zn_cl, zn_eq, zn_lt, zn_le, zn_add, zn_sub, zn_mul, zn_addn, zn_eqn, zn_neq, zn_nlt, zn_nle, zn_ckb, isB_b2i, b2z0, b2z1, b2it, b2if, M.2, hb, a1, k7, Nat.sub_zero, or_true]
              · simp (disch := omega) only [mp607, mp608, mp609, mp611, mp612, mp613, mp614, mp615, mp616, mp617, mp618, mp619, mp620, mp621, mp622, mp625, mp626, mp631, mp632, mp633, mp636, mp637, mp638, mp639, mp640, mp641, mp642, mp643, mp645, mp646, mp650, mp651, mp652, mp653, mp654, mp655, mp656, mp657, mp658, ln3001, ln3002, ln3003, ln3004, ln3005, ln3006, ln3007, ln3008, ln3009, ln3010, ln3011, ln3012, ln3013, ln3014, ln3015, ln3016, ln3017, ln3018, ln3019, ln3020, ln3021, ln3022, ln3023, ln3024, ln3025, ln3026, ln3027, ln3028, ln3029, ln3030, ln3031, ln3032, ln3033, ln3034, ln3035, ln3036, ln3037, ln3038, ln3039, ck_t, nn_s, bn_d, ca_s, cv_s, oc_n, oc_s, cx_i, cx_r, cy_i, cy_r, gI_sI, gI_sP, gI_sA, gI_sR, gI_sJ, gI_nw, gI_nx, gP_sI, gP_sP, gP_sA, gP_sR, gP_sJ, gP_nw, gP_nx, gA_sI, gA_sP, gA_sA, gA_sR, gA_sJ, gA_nw, gA_nx, gR_sI, gR_sP, gR_sA, gR_sR, gR_sJ, gR_nw, gR_nx, Nat.reduceEqDiff, or_self, or_true, true_or, or_false, false_or, eq_self, and_self, and_true, true_and, and_false, false_and, if_true, if_false, ↓reduceIte, ne_eq, not_true_eq_false, not_false_eq_true, zl0, zl1, zl2, zl3, zl4, zl5, zl6, zl7, zl8, zl9, zl10, zl12, zl15, zl16, zl20, zl31, zl32, zl48, zl97, zl99, zl100, zl120, zl127, zl128, zl129, zl130, zl137, zl150, zl160, zl169, zl254, zl255, zl256, zl4000, zl65535, zl65536, if_pos, if_neg, zn_inb, zn_cl, zn_eq, zn_lt, zn_le, zn_add, zn_sub, zn_mul, zn_addn, zn_eqn, zn_neq, zn_nlt, zn_nle, zn_ckb, isB_b2i, b2z0, b2z1, b2it, b2if, M.2, hb, a1, k9, k6, k7, Nat.sub_zero, or_self]
        · by_cases k9 : tK τ t = 9
          · rw [(tgs_nil (g := none) w).mpr k9]
            exact ⟨by rw [gI_sA, gI_sI, if_pos ⟨rfl, rfl⟩, if_pos k9]; rfl, fun i x hx => by cases hx⟩
          · rw [tgs_ne n t none k k9]
            refine ⟨by rw [gI_sA, gI_sI, if_pos ⟨rfl, rfl⟩, if_neg k9]; rfl, fun i x hx => ?_⟩
            cases i with
            | succ i => cases hx
            | zero =>
              cases hx
              rw [gA_sA, if_pos ⟨rfl, rfl⟩]
              by_cases c : tK τ t = 6 ∨ tK τ t = 7
              · rw [if_pos c, if_pos c]; rfl
              · rw [if_neg c, if_neg c]
/-- what unwrap does -/
theorem unw_ok {h : Hp} {n t : Nat} (M : MP h) (T : MT h τ N) (ht : t < N) (w : WFt τ n t) (hn : n ≤ 12) (hF : 100 ≤ F) :
    ∃ h', fX6_unwrap F d 3000 (zI t) h = some h' ∧ UW 0 h h' ∧ TgA h' (tgs τ 200 t none) ∧ gI h' 623 3000 = zI ↑(bas τ 200 t) ∧ bas τ 200 t < N := by
  unfold fX6_unwrap
  rw [bn_d]
  have U1 : UW 0 h (sI h 623 3000 (zI ↑t)) := ⟨rfl, rfl, rfl, fun g y q => by rw [gI_sI, if_neg (fun z => q ⟨z.2, Or.inl z.1⟩)], fun _ _ _ _ => rfl, fun _ _ => rfl⟩
  obtain ⟨s, h', hs, e1, U, TA, hb2, hlt⟩ := unw_lp (F := F) (d := d) n t 0 F (sI h 623 3000 (zI ↑t)) (U1.mp M) (U1.mt T) ht w (by omega) hn (by rw [gI_sI, if_pos ⟨rfl, rfl⟩]) (by omega) hF
  rw [show (0 : Int32) = zI ↑(0 : Nat) from rfl, e1]
  obtain ⟨f, hf⟩ : ∃ f, F - s = f + 1 := ⟨F - s - 1, by omega⟩
  rw [hf, fX6_unwrap_102, if_pos (show zI ↑(0 : Nat) ≤ 0 from Int32.le_refl _)]
  rw [bas_fuel w (by omega), tgs_fuel w (by omega)]
  exact ⟨h', rfl, U1.tr (Nat.le_refl _) U, TA, hb2, hlt⟩
end Unw
