/-! RANKS of alternatives: all below the count are taken; the model's rank -/
set_option maxRecDepth 100000
theorem nodup_len : ∀ (n : Nat) (l : List Nat), l.Nodup → (∀ x ∈ l, x < n) → l.length ≤ n := by
  intro n
  induction n with
  | zero =>
    intro l _ h
    cases l with
    | nil => exact Nat.le_refl _
    | cons x l => have := h x (List.mem_cons_self); omega
  | succ n ih =>
    intro l d h
    by_cases c : n ∈ l
    · have h1 := ih (l.erase n) (d.erase n) (fun x hx => by
        have h2 := (List.Nodup.mem_erase_iff d).mp hx
        have h3 := h x h2.2
        have h4 := h2.1
        omega)
      have h2 := List.length_erase_of_mem c
      have h3 : 0 < l.length := List.length_pos_of_mem c
      omega
    · have := ih l d (fun x hx => by
        have h3 := h x hx
        have h4 : x ≠ n := fun e => c (e ▸ hx)
        omega)
      omega
theorem cntP_lt {α : Type} {p q : α → Bool} : ∀ (l : List α), (∀ x ∈ l, p x = true → q x = true) → (∃ a, a ∈ l ∧ q a = true ∧ p a = false) → l.countP p < l.countP q := by
  intro l
  induction l with
  | nil => intro _ ⟨a, h, _⟩; cases h
  | cons x l ih =>
    intro h1 ⟨a, ha, h2, h3⟩
    rw [List.countP_cons, List.countP_cons]
    have le : l.countP p ≤ l.countP q := List.countP_mono_left (fun y hy => h1 y (List.mem_cons_of_mem _ hy))
    rcases List.mem_cons.mp ha with e | e
    · subst e
      rw [h2, h3]
      simp
      omega
    · have lt := ih (fun y hy => h1 y (List.mem_cons_of_mem _ hy)) ⟨a, e, h2, h3⟩
      have hx := h1 x (List.mem_cons_self)
      cases hp : p x with
      | false => simp; omega
      | true => rw [hx hp]; simp; omega
section Rk
variable {τ : Tb}
theorem tS_ne0 : ∀ {n t : Nat}, WFt τ n t → tS τ t ≠ 0 := by
  intro n
  induction n with
  | zero => intro t w; exact w.elim
  | succ n ih =>
    intro t w
    rcases w with ⟨-, w, -⟩ | ⟨-, w, -⟩ | ⟨-, w, -⟩ | ⟨-, w, -⟩ | ⟨-, w, -⟩ | ⟨-, w, -⟩ | ⟨-, w, ⟨w1, -⟩, -, w2⟩ | ⟨-, w, w2, -⟩
    · rw [w]; decide
    · rw [w]; decide
    · rw [w]; decide
    · rw [w]; decide
    · rw [w]; decide
    · rw [w]; decide
    · rw [w]
      obtain ⟨N, hN⟩ : ∃ N, tN τ t = N + 1 := ⟨tN τ t - 1, by omega⟩
      rw [hN]
      intro z
      have h0 := ih (w2 N (by omega))
      have : orS τ t N ||| tS τ (tC τ t N) = 0 := z
      exact h0 (Nat.or_eq_zero_iff.mp this).2
    · rw [w]
      exact Nat.ne_of_gt (Nat.pow_pos (by decide))
theorem lsb_ne {a c : Nat} (ha : a < 2 ^ 30) (h0 : a ≠ 0) (hd : a &&& c = 0) : zI ↑a &&& -zI ↑a ≠ zI ↑c &&& -zI ↑c := by
  intro e
  have e1 : zI ↑a &&& zI ↑c = 0 := by rw [zI_and, hd]; rfl
  have e2 : zI ↑a &&& -zI ↑a = 0 := by
    have : zI ↑a &&& -zI ↑a = (zI ↑a &&& zI ↑c) &&& (-zI ↑a &&& -zI ↑c) := by
      have h1 : zI ↑a &&& -zI ↑a = (zI ↑a &&& -zI ↑a) &&& (zI ↑c &&& -zI ↑c) := by rw [← e, Int32.and_self]
      rw [h1]
      apply Int32.toBitVec_inj.mp
      simp only [Int32.toBitVec_and]
      ac_rfl
    rw [this, e1, Int32.zero_and]
  have e3 : (zI ↑a).toBitVec &&& -(zI ↑a).toBitVec = 0#32 := by
    have := congrArg Int32.toBitVec e2
    rw [Int32.toBitVec_and, Int32.toBitVec_neg] at this
    exact this
  have e4 := BitVec.add_eq_or_of_and_eq_zero _ _ e3
  have e5 : (zI ↑a).toBitVec = 0#32 := by
    rw [← BitVec.sub_eq_add_neg, BitVec.sub_self] at e4
    apply BitVec.eq_of_getLsbD_eq
    intro i hi
    have := congrArg (fun x => BitVec.getLsbD x i) e4
    simp only [BitVec.getLsbD_or, BitVec.getLsbD_zero] at this
    rw [BitVec.getLsbD_zero]
    cases hb : (zI ↑a).toBitVec.getLsbD i with
    | false => rfl
    | true => rw [hb] at this; simp at this
  have e6 : zI ↑a = zI ↑(0 : Nat) := Int32.toBitVec_inj.mp e5
  rw [zI_eq (by omega) (by omega) (by omega) (by omega)] at e6
  omega
theorem rnk_inj {j q i k : Nat} (w : WFt τ (j + 1) q) (k9 : tK τ q = 9) (hi : i < tN τ q) (hk : k < tN τ q) (hne : i ≠ k) : rnk τ q i ≠ rnk τ q k := by
  have w9 := w.cho k9
  have dis : lsb τ (tC τ q i) ≠ lsb τ (tC τ q k) := by
    unfold lsb
    rcases Nat.lt_or_ge i k with c | c
    · exact lsb_ne (tS_lt (w9.2.2 i hi)) (tS_ne0 (w9.2.2 i hi)) (w9.2.1 i k c hk)
    · exact (lsb_ne (tS_lt (w9.2.2 k hk)) (tS_ne0 (w9.2.2 k hk)) (w9.2.1 k i (by omega) hi)).symm
  have main : ∀ i k, i < tN τ q → lsb τ (tC τ q i) < lsb τ (tC τ q k) → rnk τ q i < rnk τ q k := by
    intro i k hi lt
    unfold rnk
    apply cntP_lt
    · intro x _ hx
      exact decide_eq_true (Int32.lt_trans (of_decide_eq_true hx) lt)
    · exact ⟨i, List.mem_range.mpr hi, decide_eq_true lt, decide_eq_false (Int32.lt_irrefl)⟩
  have : lsb τ (tC τ q i) < lsb τ (tC τ q k) ∨ lsb τ (tC τ q k) < lsb τ (tC τ q i) := by
    rw [Int32.lt_iff_toInt_lt, Int32.lt_iff_toInt_lt]
    have : (lsb τ (tC τ q i)).toInt ≠ (lsb τ (tC τ q k)).toInt := fun z => dis (Int32.toInt_inj.mp z)
    omega
  rcases this with c | c
  · exact Nat.ne_of_lt (main i k hi c)
  · exact Nat.ne_of_gt (main k i hk c)
theorem rnk_ex {j q r : Nat} (w : WFt τ (j + 1) q) (k9 : tK τ q = 9) (hr : r < tN τ q) : ∃ k, k < tN τ q ∧ rnk τ q k = r := by
  apply Classical.byContradiction
  intro hno
  have hn : ∀ k, k < tN τ q → rnk τ q k ≠ r := fun k hk e => hno ⟨k, hk, e⟩
  have := nodup_len (tN τ q) (r :: (List.range (tN τ q)).map (rnk τ q)) (by
    refine List.nodup_cons.mpr ⟨?_, ?_⟩
    · intro hm
      obtain ⟨k, hk, e⟩ := List.mem_map.mp hm
      exact hn k (List.mem_range.mp hk) e
    · unfold List.Nodup
      rw [List.pairwise_map]
      refine List.Pairwise.imp_of_mem ?_ (List.pairwise_lt_range (n := tN τ q))
      intro a c ha hc lt
      exact rnk_inj w k9 (List.mem_range.mp ha) (List.mem_range.mp hc) (Nat.ne_of_lt lt)) (by
    intro x hx
    rcases List.mem_cons.mp hx with e | e
    · omega
    · obtain ⟨k, hk, e⟩ := List.mem_map.mp e
      rw [← e]
      exact rnk_lt q k (List.mem_range.mp hk))
  rw [List.length_cons, List.length_map, List.length_range] at this
  omega
/-- the first alternative of a rank, searched from k on -/
theorem rkF_ex {q r : Nat} : ∀ (n k : Nat), (∃ x, k ≤ x ∧ x < k + n ∧ rnk τ q x = r) → ∃ x, rkF τ q r n k = some x ∧ k ≤ x ∧ x < k + n ∧ rnk τ q x = r ∧ ∀ y, k ≤ y → y < x → rnk τ q y ≠ r := by
  intro n
  induction n with
  | zero => intro k ⟨x, h1, h2, _⟩; omega
  | succ n ih =>
    intro k ⟨x, h1, h2, h3⟩
    rw [rkF]
    by_cases c : rnk τ q k = r
    · rw [if_pos c]
      exact ⟨k, rfl, Nat.le_refl _, by omega, c, fun y a1 a2 => by omega⟩
    · rw [if_neg c]
      have : x ≠ k := fun e => c (e ▸ h3)
      obtain ⟨z, z1, z2, z3, z4, z5⟩ := ih (k + 1) ⟨x, by omega, by omega, h3⟩
      refine ⟨z, z1, by omega, by omega, z4, fun y a1 a2 => ?_⟩
      by_cases cy : y = k
      · rw [cy]; exact c
      · exact z5 y (by omega) a2
end Rk
section Mrk
variable {F dd N : Nat} {h : Hp} {τ : Tb}
theorem mrk_lp {j q k : Nat} (M : MP h) (T : MT h τ N) (hq : q < N) (w : WFt τ (j + 1) q) (k9 : tK τ q = 9) (hk : k < tN τ q) (hF : 1000 ≤ F) :
    ∀ (r i nf : Nat), i + r = tN τ q → r < nf → fX6_rank_26 F dd nf 3000 (zI ↑q) (zI ↑((List.range i).countP fun i => decide (lsb τ (tC τ q i) < lsb τ (tC τ q k)))) (zI ↑(tS τ (tC τ q k))) (zI ↑(6 * q + i)) h = some (zI ↑(rnk τ q k), h) := by
  have w9 := w.cho k9
  have hN := T.1
  obtain ⟨⟨-, a2, -⟩, -, -, -, a9⟩ := T.2 q hq
  intro r
  induction r with
  | zero =>
    intro i nf hi hn
    obtain ⟨f, rfl⟩ : ∃ f, nf = f + 1 := ⟨nf - 1, by omega⟩
    have : i = tN τ q := by omega
    subst this
    rw [fX6_rank_26]
    simp (disch := omega) only [mp607, mp608, mp609, mp611, mp612, mp613, mp614, mp615, mp616, mp617, mp618, mp619, mp620, mp621, mp622, mp625, mp626, mp631, mp632, mp633, mp636, mp637, mp638, mp639, mp640, mp641, mp642, mp643, mp645, mp646, mp650, mp651, mp652, mp653, mp654, mp655, mp656, mp657, mp658, ln3001, ln3002, ln3003, ln3004, ln3005, ln3006, ln3007, ln3008, ln3009, ln3010, ln3011, ln3012, ln3013, ln3014, ln3015, ln3016, ln3017, ln3018, ln3019, ln3020, ln3021, ln3022, ln3023, ln3024, ln3025, ln3026, ln3027, ln3028, ln3029, ln3030, ln3031, ln3032, ln3033, ln3034, ln3035, ln3036, ln3037, ln3038, ln3039, ck_t, nn_s, bn_d, ca_s, cv_s, oc_n, oc_s, cx_i, cx_r, cy_i, cy_r, gI_sI, gI_sP, gI_sA, gI_sR, gI_sJ, gI_nw, gI_nx, gP_sI, gP_sP, gP_sA, gP_sR, gP_sJ, gP_nw, gP_nx, gA_sI, gA_sP, gA_sA, gA_sR, gA_sJ, gA_nw, gA_nx, gR_sI, gR_sP, gR_sA, gR_sR, gR_sJ, gR_nw, gR_nx, reduceCtorEq, Nat.reduceEqDiff, or_self, or_true, true_or, or_false, false_or, eq_self, and_self, and_true, true_and, and_false, false_and, if_true, if_false, ↓reduceIte, ne_eq, not_true_eq_false, not_false_eq_true, zl0, zl1, zl2, zl3, zl4, zl5, zl6, zl7, zl8, zl9, zl10, zl12, zl15, zl16, zl20, zl31, zl32, zl48, zl97, zl99, zl100, zl120, zl127, zl128, zl129, zl130, zl137, zl150, zl160, zl169, zl254, zl255, zl256, zl4000, zl65535, zl65536, if_pos, if_neg, zn_inb, zn_cl, zn_eq, zn_lt, zn_le, zn_add, zn_sub, zn_mul, zn_addn, zn_eqn, zn_neq, zn_nlt, zn_nle, zn_ckb, isB_b2i, b2z0, b2z1, b2it, b2if, M.2, a2]
    rfl
  | succ r ih =>
    intro i nf hi hn
    obtain ⟨f, rfl⟩ : ∃ f, nf = f + 1 := ⟨nf - 1, by omega⟩
    obtain ⟨c1, c2, c3, c4⟩ := a9 i (by omega)
    obtain ⟨⟨-, -, b3, -⟩, -⟩ := T.2 (tC τ q i) c4
    have e1 : (List.range (i + 1)).countP (fun i => decide (lsb τ (tC τ q i) < lsb τ (tC τ q k))) = (List.range i).countP (fun i => decide (lsb τ (tC τ q i) < lsb τ (tC τ q k))) + (if lsb τ (tC τ q i) < lsb τ (tC τ q k) then 1 else 0) := by
      rw [List.range_succ, List.countP_append]
      congr 1
      by_cases z : lsb τ (tC τ q i) < lsb τ (tC τ q k)
      · rw [if_pos z]; simp [z]
      · rw [if_neg z]; simp [z]
    have I := ih (i + 1) f (by omega) (by omega)
    rw [e1] at I
    generalize hC : (List.range i).countP (fun i => decide (lsb τ (tC τ q i) < lsb τ (tC τ q k))) = C at *
    rw [fX6_rank_26]
    unfold fX6_rank_83
    by_cases z : lsb τ (tC τ q i) < lsb τ (tC τ q k)
    · have z2 : ¬ zI ↑(tS τ (tC τ q k)) &&& -zI ↑(tS τ (tC τ q k)) ≤ zI ↑(tS τ (tC τ q i)) &&& -zI ↑(tS τ (tC τ q i)) := Int32.not_le.mpr z
      rw [if_pos z] at I
      rw [← I]
      simp (disch := omega) only [mp607, mp608, mp609, mp611, mp612, mp613, mp614, mp615, mp616, mp617, mp618, mp619, mp620, mp621, mp622, mp625, mp626, mp631, mp632, mp633, mp636, mp637, mp638, mp639, mp640, mp641, mp642, mp643, mp645, mp646, mp650, mp651, mp652, mp653, mp654, mp655, mp656, mp657, mp658, ln3001, ln3002, ln3003, ln3004, ln3005, ln3006, ln3007, ln3008, ln3009, ln3010, ln3011, ln3012, ln3013, ln3014, ln3015, ln3016, ln3017, ln3018, ln3019, ln3020, ln3021, ln3022, ln3023, ln3024, ln3025, ln3026, ln3027, ln3028, ln3029, ln3030, ln3031, ln3032, ln3033, ln3034, ln3035, ln3036, ln3037, ln3038, ln3039, ck_t, nn_s, bn_d, ca_s, cv_s, oc_n, oc_s, cx_i, cx_r, cy_i, cy_r, gI_sI, gI_sP, gI_sA, gI_sR, gI_sJ, gI_nw, gI_nx, gP_sI, gP_sP, gP_sA, gP_sR, gP_sJ, gP_nw, gP_nx, gA_sI, gA_sP, gA_sA, gA_sR, gA_sJ, gA_nw, gA_nx, gR_sI, gR_sP, gR_sA, gR_sR, gR_sJ, gR_nw, gR_nx, reduceCtorEq, Nat.reduceEqDiff, or_self, or_true, true_or, or_false, false_or, eq_self, and_self, and_true, true_and, and_false, false_and, if_true, if_false, ↓reduceIte, ne_eq, not_true_eq_false, not_false_eq_true, zl0, zl1, zl2, zl3, zl4, zl5, zl6, zl7, zl8, zl9, zl10, zl12, zl15, zl16, zl20, zl31, zl32, zl48, zl97, zl99, zl100, zl120, zl127, zl128, zl129, zl130, zl137, zl150, zl160, zl169, zl254, zl255, zl256, zl4000, zl65535, zl65536, if_pos, if_neg, zn_inb, zn_cl, zn_eq, zn_lt, zn_le, zn_add, zn_sub, zn_mul, zn_addn, zn_eqn, zn_neq, zn_nlt, zn_nle, zn_ckb, isB_b2i, b2z0, b2z1, b2it, b2if, M.2, a2, c1, b3]
      rfl
    · have z2 : zI ↑(tS τ (tC τ q k)) &&& -zI ↑(tS τ (tC τ q k)) ≤ zI ↑(tS τ (tC τ q i)) &&& -zI ↑(tS τ (tC τ q i)) := Int32.not_lt.mp z
      rw [if_neg z] at I
      rw [← I]
      simp (disch := omega) only [mp607, mp608, mp609, mp611, mp612, mp613, mp614, mp615, mp616, mp617, mp618, mp619, mp620, mp621, mp622, mp625, mp626, mp631, mp632, mp633, mp636, mp637, mp638, mp639, mp640, mp641, mp642, mp643, mp645, mp646, mp650, mp651, mp652, mp653, mp654, mp655, mp656, mp657, mp658, ln3001, ln3002, ln3003, ln3004, ln3005, ln3006, ln3007, ln3008, ln3009, ln3010, ln3011, ln3012, ln3013, ln3014, ln3015, ln3016, ln3017, ln3018, ln3019, ln3020, ln3021, ln3022, ln3023, ln3024, ln3025, ln3026, ln3027, ln3028, ln3029, ln3030, ln3031, ln3032, ln3033, ln3034, ln3035, ln3036, ln3037, ln3038, ln3039, ck_t, nn_s, bn_d, ca_s, cv_s, oc_n, oc_s, cx_i, cx_r, cy_i, cy_r, gI_sI, gI_sP, gI_sA, gI_sR, gI_sJ, gI_nw, gI_nx, gP_sI, gP_sP, gP_sA, gP_sR, gP_sJ, gP_nw, gP_nx, gA_sI, gA_sP, gA_sA, gA_sR, gA_sJ, gA_nw, gA_nx, gR_sI, gR_sP, gR_sA, gR_sR, gR_sJ, gR_nw, gR_nx, reduceCtorEq, Nat.reduceEqDiff, or_self, or_true, true_or, or_false, false_or, eq_self, and_self, and_true, true_and, and_false, false_and, if_true, if_false, ↓reduceIte, ne_eq, not_true_eq_false, not_false_eq_true, zl0, zl1, zl2, zl3, zl4, zl5, zl6, zl7, zl8, zl9, zl10, zl12, zl15, zl16, zl20, zl31, zl32, zl48, zl97, zl99, zl100, zl120, zl127, zl128, zl129, zl130, zl137, zl150, zl160, zl169, zl254, zl255, zl256, zl4000, zl65535, zl65536, if_pos, if_neg, zn_inb, zn_cl, zn_eq, zn_lt, zn_le, zn_add, zn_sub, zn_mul, zn_addn, zn_eqn, zn_neq, zn_nlt, zn_nle, zn_ckb, isB_b2i, b2z0, b2z1, b2it, b2if, M.2, a2, c1, b3]
      rfl
theorem mrk_ok {j q k : Nat} (M : MP h) (T : MT h τ N) (hq : q < N) (w : WFt τ (j + 1) q) (k9 : tK τ q = 9) (hk : k < tN τ q) (hF : 1000 ≤ F) : fX6_rank F dd 3000 (zI ↑q) (zI ↑k) h = some (zI ↑(rnk τ q k), h) := by
  have w9 := w.cho k9
  have hN := T.1
  obtain ⟨⟨-, a2, -⟩, -, -, -, a9⟩ := T.2 q hq
  obtain ⟨c1, c2, c3, c4⟩ := a9 k hk
  obtain ⟨⟨-, -, b3, -⟩, -⟩ := T.2 (tC τ q k) c4
  have I := mrk_lp (F := F) (dd := dd) M T hq w k9 hk hF (tN τ q) 0 F (by omega) (by omega)
  rw [← I]
  unfold fX6_rank
  simp (disch := omega) only [mp607, mp608, mp609, mp611, mp612, mp613, mp614, mp615, mp616, mp617, mp618, mp619, mp620, mp621, mp622, mp625, mp626, mp631, mp632, mp633, mp636, mp637, mp638, mp639, mp640, mp641, mp642, mp643, mp645, mp646, mp650, mp651, mp652, mp653, mp654, mp655, mp656, mp657, mp658, ln3001, ln3002, ln3003, ln3004, ln3005, ln3006, ln3007, ln3008, ln3009, ln3010, ln3011, ln3012, ln3013, ln3014, ln3015, ln3016, ln3017, ln3018, ln3019, ln3020, ln3021, ln3022, ln3023, ln3024, ln3025, ln3026, ln3027, ln3028, ln3029, ln3030, ln3031, ln3032, ln3033, ln3034, ln3035, ln3036, ln3037, ln3038, ln3039, ck_t, nn_s, bn_d, ca_s, cv_s, oc_n, oc_s, cx_i, cx_r, cy_i, cy_r, gI_sI, gI_sP, gI_sA, gI_sR, gI_sJ, gI_nw, gI_nx, gP_sI, gP_sP, gP_sA, gP_sR, gP_sJ, gP_nw, gP_nx, gA_sI, gA_sP, gA_sA, gA_sR, gA_sJ, gA_nw, gA_nx, gR_sI, gR_sP, gR_sA, gR_sR, gR_sJ, gR_nw, gR_nx, reduceCtorEq, Nat.reduceEqDiff, or_self, or_true, true_or, or_false, false_or, eq_self, and_self, and_true, true_and, and_false, false_and, if_true, if_false, ↓reduceIte, ne_eq, not_true_eq_false, not_false_eq_true, zl0, zl1, zl2, zl3, zl4, zl5, zl6, zl7, zl8, zl9, zl10, zl12, zl15, zl16, zl20, zl31, zl32, zl48, zl97, zl99, zl100, zl120, zl127, zl128, zl129, zl130, zl137, zl150, zl160, zl169, zl254, zl255, zl256, zl4000, zl65535, zl65536, if_pos, if_neg, zn_inb, zn_cl, zn_eq, zn_lt, zn_le, zn_add, zn_sub, zn_mul, zn_addn, zn_eqn, zn_neq, zn_nlt, zn_nle, zn_ckb, isB_b2i, b2z0, b2z1, b2it, b2if, M.2, c1, b3]
  rfl
end Mrk
