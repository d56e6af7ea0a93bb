/-! THE MODEL WRITES (3): DER, all parts -/
set_option maxRecDepth 100000
section Mw
variable {F dd N : Nat} {τ : Tb}
/-- who a part's parent is: none, or a part of a type around q -/
def ParI (h : Hp) (τ : Tb) (N : Nat) (of : Int32) (q : Option Nat) : Prop := match q with
  | none => of = -1
  | some q => ∃ pi tp jt : Nat, of = zI ↑pi ∧ pi < 100 ∧ gA h 3021 pi = zI ↑tp ∧ tp < N ∧ WFt τ jt tp ∧ jt ≤ 12 ∧ bas τ 200 tp = q
/-- whether a part has its default -/
def lftO (τ : Tb) (q : Option Nat) (as : Nat) (x : Int32) : Bool := match q with
  | none => false
  | some q => tK τ q == 6 && tF τ q as == 2 && tD τ q as == x
theorem left_ok {h : Hp} {i t as u : Nat} {of x : Int32} {q : Option Nat} (M : MP h) (T : MT h τ N) (p : PtI h i t of as x u) (P : ParI h τ N of q) (hi : i < 100) (ha : ∀ q', q = some q' → tK τ q' = 6 → as < tN τ q' ∧ tN τ q' ≤ 6 ∧ tF τ q' as ≤ 2) (ha2 : as < 1000) (hF : 1000 ≤ F) :
    ∃ h', fX6_isLeft F dd 3000 (zI ↑i) h = some (b2i (lftO τ q as x), h') ∧ UW 0 h h' := by
  have hN := T.1
  obtain ⟨p1, p2, p3, p4, p5⟩ := p
  cases q with
  | none =>
    have P' : of = -1 := P
    have n2 : (zI ↑(0 : Nat) ≤ -zI ↑(1 : Nat)) = False := by decide
    refine ⟨h, ?_, ⟨rfl, rfl, rfl, fun _ _ _ => rfl, fun _ _ _ _ => rfl, fun _ _ => rfl⟩⟩
    unfold fX6_isLeft
    rw [P'] at p2
    simp (disch := omega) only [mp607, mp608, mp609, mp611, mp612, mp613, mp614, mp615, mp616, mp617, mp618, mp619, mp620, mp621, mp622, mp625, mp626, mp631, mp632, mp633, mp636, mp637, mp638, mp639, mp640, mp641, mp642, mp643, mp645, mp646, mp650, mp651, mp652, mp653, mp654, mp655, mp656, mp657, mp658, ln3001, ln3002, ln3003, ln3004, ln3005, ln3006, ln3007, ln3008, ln3009, ln3010, ln3011, ln3012, ln3013, ln3014, ln3015, ln3016, ln3017, ln3018, ln3019, ln3020, ln3021, ln3022, ln3023, ln3024, ln3025, ln3026, ln3027, ln3028, ln3029, ln3030, ln3031, ln3032, ln3033, ln3034, ln3035, ln3036, ln3037, ln3038, ln3039, ck_t, nn_s, bn_d, ca_s, cv_s, oc_n, oc_s, cx_i, cx_r, cy_i, cy_r, gI_sI, gI_sP, gI_sA, gI_sR, gI_sJ, gI_nw, gI_nx, gP_sI, gP_sP, gP_sA, gP_sR, gP_sJ, gP_nw, gP_nx, gA_sI, gA_sP, gA_sA, gA_sR, gA_sJ, gA_nw, gA_nx, gR_sI, gR_sP, gR_sA, gR_sR, gR_sJ, gR_nw, gR_nx, reduceCtorEq, Nat.reduceEqDiff, or_self, or_true, true_or, or_false, false_or, eq_self, and_self, and_true, true_and, and_false, false_and, if_true, if_false, ↓reduceIte, ne_eq, not_true_eq_false, not_false_eq_true, zl0, zl1, zl2, zl3, zl4, zl5, zl6, zl7, zl8, zl9, zl10, zl12, zl15, zl16, zl20, zl31, zl32, zl48, zl97, zl99, zl100, zl120, zl127, zl128, zl129, zl130, zl137, zl150, zl160, zl169, zl254, zl255, zl256, zl4000, zl65535, zl65536, if_pos, if_neg, zn_inb, zn_cl, zn_eq, zn_lt, zn_le, zn_add, zn_sub, zn_mul, zn_addn, zn_eqn, zn_neq, zn_nlt, zn_nle, zn_ckb, isB_b2i, b2z0, b2z1, b2it, b2if, M.2, p2, n2]
    rfl
  | some q =>
    obtain ⟨pi, tp, jt, o1, o2, o3, o4, o5, o6, o7⟩ := P
    obtain ⟨h1, e1, U, TA, hb, hlt⟩ := unw_ok (F := F) (d := dd) M T o4 o5 o6 (by omega)
    rw [o7] at hb hlt
    have M1 := U.mp M
    have T1 := U.mt T
    obtain ⟨⟨a1, -⟩, -, -, -, a9⟩ := T1.2 q hlt
    have bO : fX6_baseOf F dd 3000 (zI ↑pi) h = some (zI ↑q, h1) := by
      unfold fX6_baseOf
      simp (disch := omega) only [mp607, mp608, mp609, mp611, mp612, mp613, mp614, mp615, mp616, mp617, mp618, mp619, mp620, mp621, mp622, mp625, mp626, mp631, mp632, mp633, mp636, mp637, mp638, mp639, mp640, mp641, mp642, mp643, mp645, mp646, mp650, mp651, mp652, mp653, mp654, mp655, mp656, mp657, mp658, ln3001, ln3002, ln3003, ln3004, ln3005, ln3006, ln3007, ln3008, ln3009, ln3010, ln3011, ln3012, ln3013, ln3014, ln3015, ln3016, ln3017, ln3018, ln3019, ln3020, ln3021, ln3022, ln3023, ln3024, ln3025, ln3026, ln3027, ln3028, ln3029, ln3030, ln3031, ln3032, ln3033, ln3034, ln3035, ln3036, ln3037, ln3038, ln3039, ck_t, nn_s, bn_d, ca_s, cv_s, oc_n, oc_s, cx_i, cx_r, cy_i, cy_r, gI_sI, gI_sP, gI_sA, gI_sR, gI_sJ, gI_nw, gI_nx, gP_sI, gP_sP, gP_sA, gP_sR, gP_sJ, gP_nw, gP_nx, gA_sI, gA_sP, gA_sA, gA_sR, gA_sJ, gA_nw, gA_nx, gR_sI, gR_sP, gR_sA, gR_sR, gR_sJ, gR_nw, gR_nx, reduceCtorEq, Nat.reduceEqDiff, or_self, or_true, true_or, or_false, false_or, eq_self, and_self, and_true, true_and, and_false, false_and, if_true, if_false, ↓reduceIte, ne_eq, not_true_eq_false, not_false_eq_true, zl0, zl1, zl2, zl3, zl4, zl5, zl6, zl7, zl8, zl9, zl10, zl12, zl15, zl16, zl20, zl31, zl32, zl48, zl97, zl99, zl100, zl120, zl127, zl128, zl129, zl130, zl137, zl150, zl160, zl169, zl254, zl255, zl256, zl4000, zl65535, zl65536, if_pos, if_neg, zn_inb, zn_cl, zn_eq, zn_lt, zn_le, zn_add, zn_sub, zn_mul, zn_addn, zn_eqn, zn_neq, zn_nlt, zn_nle, zn_ckb, isB_b2i, b2z0, b2z1, b2it, b2if, M.2, o3, e1, hb]
    have A : ∀ y j, ¬ y = 3016 → ¬ y = 3017 → gA h1 y j = gA h y j := fun y j q1 q2 => U.2.2.2.2.1 y j q1 q2
    have p3' : gA h1 3023 i = zI ↑as := (A _ _ (by omega) (by omega)).trans p3
    have p4' : gA h1 3022 i = x := (A _ _ (by omega) (by omega)).trans p4
    rw [o1] at p2
    have kq : tK τ q ≤ 10 := by
      obtain ⟨jb, -, w1, -⟩ := o5.base (by omega)
      rw [o7] at w1
      exact w1.kind.1
    refine ⟨h1, ?_, U⟩
    show fX6_isLeft F dd 3000 (zI ↑i) h = some (b2i (tK τ q == 6 && tF τ q as == 2 && tD τ q as == x), h1)
    unfold fX6_isLeft
    by_cases k6 : tK τ q = 6
    · obtain ⟨ha1, ha6, ha7⟩ := ha q rfl k6
      obtain ⟨c1, c2, c3, c4⟩ := a9 as ha1
      by_cases f2 : tF τ q as = 2
      · have c3 := c3 f2
        by_cases e : tD τ q as = x
        · have lf : (tK τ q == 6 && tF τ q as == 2 && tD τ q as == x) = true := by simp [k6, f2, e]
          rw [lf]
          simp (disch := omega) only [mp607, mp608, mp609, mp611, mp612, mp613, mp614, mp615, mp616, mp617, mp618, mp619, mp620, mp621, mp622, mp625, mp626, mp631, mp632, mp633, mp636, mp637, mp638, mp639, mp640, mp641, mp642, mp643, mp645, mp646, mp650, mp651, mp652, mp653, mp654, mp655, mp656, mp657, mp658, ln3001, ln3002, ln3003, ln3004, ln3005, ln3006, ln3007, ln3008, ln3009, ln3010, ln3011, ln3012, ln3013, ln3014, ln3015, ln3016, ln3017, ln3018, ln3019, ln3020, ln3021, ln3022, ln3023, ln3024, ln3025, ln3026, ln3027, ln3028, ln3029, ln3030, ln3031, ln3032, ln3033, ln3034, ln3035, ln3036, ln3037, ln3038, ln3039, ck_t, nn_s, bn_d, ca_s, cv_s, oc_n, oc_s, cx_i, cx_r, cy_i, cy_r, gI_sI, gI_sP, gI_sA, gI_sR, gI_sJ, gI_nw, gI_nx, gP_sI, gP_sP, gP_sA, gP_sR, gP_sJ, gP_nw, gP_nx, gA_sI, gA_sP, gA_sA, gA_sR, gA_sJ, gA_nw, gA_nx, gR_sI, gR_sP, gR_sA, gR_sR, gR_sJ, gR_nw, gR_nx, reduceCtorEq, Nat.reduceEqDiff, or_self, or_true, true_or, or_false, false_or, eq_self, and_self, and_true, true_and, and_false, false_and, if_true, if_false, ↓reduceIte, ne_eq, not_true_eq_false, not_false_eq_true, zl0, zl1, zl2, zl3, zl4, zl5, zl6, zl7, zl8, zl9, zl10, zl12, zl15, zl16, zl20, zl31, zl32, zl48, zl97, zl99, zl100, zl120, zl127, zl128, zl129, zl130, zl137, zl150, zl160, zl169, zl254, zl255, zl256, zl4000, zl65535, zl65536, if_pos, if_neg, zn_inb, zn_cl, zn_eq, zn_lt, zn_le, zn_add, zn_sub, zn_mul, zn_addn, zn_eqn, zn_neq, zn_nlt, zn_nle, zn_ckb, isB_b2i, b2z0, b2z1, b2it, b2if, M.2, M1.2, p2, bO, p3', p4', a1, c2, c3, k6, f2, e]
        · have lf : (tK τ q == 6 && tF τ q as == 2 && tD τ q as == x) = false := by simp [e]
          rw [lf]
          simp (disch := omega) only [mp607, mp608, mp609, mp611, mp612, mp613, mp614, mp615, mp616, mp617, mp618, mp619, mp620, mp621, mp622, mp625, mp626, mp631, mp632, mp633, mp636, mp637, mp638, mp639, mp640, mp641, mp642, mp643, mp645, mp646, mp650, mp651, mp652, mp653, mp654, mp655, mp656, mp657, mp658, ln3001, ln3002, ln3003, ln3004, ln3005, ln3006, ln3007, ln3008, ln3009, ln3010, ln3011, ln3012, ln3013, ln3014, ln3015, ln3016, ln3017, ln3018, ln3019, ln3020, ln3021, ln3022, ln3023, ln3024, ln3025, ln3026, ln3027, ln3028, ln3029, ln3030, ln3031, ln3032, ln3033, ln3034, ln3035, ln3036, ln3037, ln3038, ln3039, ck_t, nn_s, bn_d, ca_s, cv_s, oc_n, oc_s, cx_i, cx_r, cy_i, cy_r, gI_sI, gI_sP, gI_sA, gI_sR, gI_sJ, gI_nw, gI_nx, gP_sI, gP_sP, gP_sA, gP_sR, gP_sJ, gP_nw, gP_nx, gA_sI, gA_sP, gA_sA, gA_sR, gA_sJ, gA_nw, gA_nx, gR_sI, gR_sP, gR_sA, gR_sR, gR_sJ, gR_nw, gR_nx, reduceCtorEq, Nat.reduceEqDiff, or_self, or_true, true_or, or_false, false_or, eq_self, and_self, and_true, true_and, and_false, false_and, if_true, if_false, ↓reduceIte, ne_eq, not_true_eq_false, not_false_eq_true, zl0, zl1, zl2, zl3, zl4, zl5, zl6, zl7, zl8, zl9, zl10, zl12, zl15, zl16, zl20, zl31, zl32, zl48, zl97, zl99, zl100, zl120, zl127, zl128, zl129, zl130, zl137, zl150, zl160, zl169, zl254, zl255, zl256, zl4000, zl65535, zl65536, if_pos, if_neg, zn_inb, zn_cl, zn_eq, zn_lt, zn_le, zn_add, zn_sub, zn_mul, zn_addn, zn_eqn, zn_neq, zn_nlt, zn_nle, zn_ckb, isB_b2i, b2z0, b2z1, b2it, b2if, M.2, M1.2, p2, bO, p3', p4', a1, c2, c3, k6, f2, e]
      · have lf : (tK τ q == 6 && tF τ q as == 2 && tD τ q as == x) = false := by simp [f2]
        rw [lf]
        simp (disch := omega) only [mp607, mp608, mp609, mp611, mp612, mp613, mp614, mp615, mp616, mp617, mp618, mp619, mp620, mp621, mp622, mp625, mp626, mp631, mp632, mp633, mp636, mp637, mp638, mp639, mp640, mp641, mp642, mp643, mp645, mp646, mp650, mp651, mp652, mp653, mp654, mp655, mp656, mp657, mp658, ln3001, ln3002, ln3003, ln3004, ln3005, ln3006, ln3007, ln3008, ln3009, ln3010, ln3011, ln3012, ln3013, ln3014, ln3015, ln3016, ln3017, ln3018, ln3019, ln3020, ln3021, ln3022, ln3023, ln3024, ln3025, ln3026, ln3027, ln3028, ln3029, ln3030, ln3031, ln3032, ln3033, ln3034, ln3035, ln3036, ln3037, ln3038, ln3039, ck_t, nn_s, bn_d, ca_s, cv_s, oc_n, oc_s, cx_i, cx_r, cy_i, cy_r, gI_sI, gI_sP, gI_sA, gI_sR, gI_sJ, gI_nw, gI_nx, gP_sI, gP_sP, gP_sA, gP_sR, gP_sJ, gP_nw, gP_nx, gA_sI, gA_sP, gA_sA, gA_sR, gA_sJ, gA_nw, gA_nx, gR_sI, gR_sP, gR_sA, gR_sR, gR_sJ, gR_nw, gR_nx, reduceCtorEq, Nat.reduceEqDiff, or_self, or_true, true_or, or_false, false_or, eq_self, and_self, and_true, true_and, and_false, false_and, if_true, if_false, ↓reduceIte, ne_eq, not_true_eq_false, not_false_eq_true, zl0, zl1, zl2, zl3, zl4, zl5, zl6, zl7, zl8, zl9, zl10, zl12, zl15, zl16, zl20, zl31, zl32, zl48, zl97, zl99, zl100, zl120, zl127, zl128, zl129, zl130, zl137, zl150, zl160, zl169, zl254, zl255, zl256, zl4000, zl65535, zl65536, if_pos, if_neg, zn_inb, zn_cl, zn_eq, zn_lt, zn_le, zn_add, zn_sub, zn_mul, zn_addn, zn_eqn, zn_neq, zn_nlt, zn_nle, zn_ckb, isB_b2i, b2z0, b2z1, b2it, b2if, M.2, M1.2, p2, bO, p3', p4', a1, c2, k6]
    · have lf : (tK τ q == 6 && tF τ q as == 2 && tD τ q as == x) = false := by simp [k6]
      rw [lf]
      simp (disch := omega) only [mp607, mp608, mp609, mp611, mp612, mp613, mp614, mp615, mp616, mp617, mp618, mp619, mp620, mp621, mp622, mp625, mp626, mp631, mp632, mp633, mp636, mp637, mp638, mp639, mp640, mp641, mp642, mp643, mp645, mp646, mp650, mp651, mp652, mp653, mp654, mp655, mp656, mp657, mp658, ln3001, ln3002, ln3003, ln3004, ln3005, ln3006, ln3007, ln3008, ln3009, ln3010, ln3011, ln3012, ln3013, ln3014, ln3015, ln3016, ln3017, ln3018, ln3019, ln3020, ln3021, ln3022, ln3023, ln3024, ln3025, ln3026, ln3027, ln3028, ln3029, ln3030, ln3031, ln3032, ln3033, ln3034, ln3035, ln3036, ln3037, ln3038, ln3039, ck_t, nn_s, bn_d, ca_s, cv_s, oc_n, oc_s, cx_i, cx_r, cy_i, cy_r, gI_sI, gI_sP, gI_sA, gI_sR, gI_sJ, gI_nw, gI_nx, gP_sI, gP_sP, gP_sA, gP_sR, gP_sJ, gP_nw, gP_nx, gA_sI, gA_sP, gA_sA, gA_sR, gA_sJ, gA_nw, gA_nx, gR_sI, gR_sP, gR_sA, gR_sR, gR_sJ, gR_nw, gR_nx, reduceCtorEq, Nat.reduceEqDiff, or_self, or_true, true_or, or_false, false_or, eq_self, and_self, and_true, true_and, and_false, false_and, if_true, if_false, ↓reduceIte, ne_eq, not_true_eq_false, not_false_eq_true, zl0, zl1, zl2, zl3, zl4, zl5, zl6, zl7, zl8, zl9, zl10, zl12, zl15, zl16, zl20, zl31, zl32, zl48, zl97, zl99, zl100, zl120, zl127, zl128, zl129, zl130, zl137, zl150, zl160, zl169, zl254, zl255, zl256, zl4000, zl65535, zl65536, if_pos, if_neg, zn_inb, zn_cl, zn_eq, zn_lt, zn_le, zn_add, zn_sub, zn_mul, zn_addn, zn_eqn, zn_neq, zn_nlt, zn_nle, zn_ckb, isB_b2i, b2z0, b2z1, b2it, b2if, M.2, M1.2, p2, bO, p3', p4', a1]
/-- bytes in front of bytes -/
theorem EN.app {h h' : Hp} {E lo hi : Nat} {V W : List Nat} (e : EN h E W) (e2 : EN h' (E - W.length) V) (w : WW (E - W.length) lo hi h h') : EN h' E (V ++ W) := by
  obtain ⟨a1, a2, a3, a4⟩ := e
  obtain ⟨b1, b2, b3, b4⟩ := e2
  refine ⟨?_, by rw [List.length_append]; omega, a3, fun k x hx => ?_⟩
  · rw [b1, List.length_append]; congr 2; omega
  · rw [List.length_append]
    rw [List.getElem?_append] at hx
    split at hx
    · next c => rw [show E - (V.length + W.length) + k = E - W.length - V.length + k by omega]; exact b4 k x hx
    · next c =>
      rw [w.2.2 _ _ (by omega) (by omega) (by omega) (by omega), show E - (V.length + W.length) + k = E - W.length + (k - V.length) by omega]
      exact a4 _ _ hx
/-- what is written of a part -/
def encO (τ : Tb) (q : Option Nat) (as : Nat) (d : Nat) (v : Vt d) (t : Nat) : List Nat := if lftO τ q as (vNum d v) then [] else enc τ d v t none
theorem kids_cat {d q : Nat} {x : Int32} (k : tK τ q = 6 ∨ tK τ q = 7 ∨ tK τ q = 9) {v : Vt (d + 1)} (hv : vN v = x) : cnE τ (enc τ d) v q = ((vK v).map fun p => encO τ (some q) p.1 d p.2 (kdT τ q x p.1)).flatten := by
  unfold cnE
  rw [if_neg (by omega), if_neg (by omega), if_neg (by omega), if_neg (by omega)]
  congr 1
  apply List.map_congr_left
  intro p _
  unfold encO lft lftO kdT
  rw [hv]
theorem idx_lt {α : Type} : ∀ (l : List (Nat × α)) (k : Nat), idx k l → ∀ q ∈ l, q.1 < k + l.length := by
  intro l
  induction l with
  | nil => intro k _ q hq; cases hq
  | cons x l ih =>
    intro k h q hq
    rw [List.length_cons]
    rcases List.mem_cons.mp hq with e | e
    · rw [e, h.1]; omega
    · have := ih _ h.2 q e; omega
theorem len_szs {d : Nat} : ∀ (l : List (Nat × Vt d)), (∀ p ∈ l, 1 ≤ sz d p.2) → l.length ≤ szs l := by
  intro l
  induction l with
  | nil => intro _; exact Nat.zero_le _
  | cons x l ih =>
    intro h
    rw [szs_cons, List.length_cons]
    have := h x (List.mem_cons_self)
    have := ih fun p hp => h p (List.mem_cons_of_mem _ hp)
    omega
theorem vok_sz {d t : Nat} {v : Vt d} (h : VOk τ d v t) : 1 ≤ sz d v := by
  cases d with
  | zero => exact h.elim
  | succ d => rw [sz_s]; omega
theorem vok_leaf {d t : Nat} {v : Vt (d + 1)} (h : VOk τ (d + 1) v t) (k : ¬ (tK τ (vT v) = 6 ∨ tK τ (vT v) = 7 ∨ tK τ (vT v) = 9)) : vK v = [] := by
  rcases h.2 with ⟨k1, -, -, q⟩ | ⟨k1, -, -, q⟩ | ⟨k1, -, -, -, q⟩ | ⟨k1, -, -, q⟩ | ⟨k1, -⟩ | ⟨k1, -⟩ | ⟨k1, -⟩ <;> first | exact q | (exfalso; omega)
/-- what is known of a value's own parts -/
theorem vok_kids {h : Hp} {d t jb : Nat} {v : Vt (d + 1)} (vo : VOk τ (d + 1) v t) (wb : WFt τ (jb + 1) (vT v)) (T : MT h τ N) (hlt : vT v < N) (hs : szs (vK v) ≤ 100) :
    ∀ p ∈ vK v, VOk τ d p.2 (kdT τ (vT v) (vN v) p.1) ∧ WFt τ jb (kdT τ (vT v) (vN v) p.1) ∧ kdT τ (vT v) (vN v) p.1 < N ∧ p.1 < 1000 ∧ (tK τ (vT v) = 6 → (p.1 < tN τ (vT v) ∧ tN τ (vT v) ≤ 6 ∧ tF τ (vT v) p.1 ≤ 2) ∧ (tF τ (vT v) p.1 = 2 → tK τ (bas τ 200 (kdT τ (vT v) (vN v) p.1)) = 1 ∨ tK τ (bas τ 200 (kdT τ (vT v) (vN v) p.1)) = 2)) := by
  intro p hp
  obtain ⟨-, -, -, a8, a9⟩ := T.2 _ hlt
  rcases vo.2 with ⟨-, -, -, q⟩ | ⟨-, -, -, q⟩ | ⟨-, -, -, -, q⟩ | ⟨-, -, -, q⟩ | ⟨k6, -, -, c, q⟩ | ⟨k7, -, -, -, c, q⟩ | ⟨k9, -, k, w, c1, c2, c3, q⟩
  · rw [q] at hp; cases hp
  · rw [q] at hp; cases hp
  · rw [q] at hp; cases hp
  · rw [q] at hp; cases hp
  · have e : kdT τ (vT v) (vN v) p.1 = tC τ (vT v) p.1 := by unfold kdT; rw [if_pos k6]
    obtain ⟨w1, w2⟩ := wb.seq k6
    have hl := (c.mem p hp).2
    obtain ⟨w3, w4, w5⟩ := w2 p.1 hl
    rw [e]
    exact ⟨q p hp, w5, (a9 _ hl).2.2.2, by omega, fun _ => ⟨⟨hl, w1, w3⟩, fun f => (w4 f).k⟩⟩
  · have e : kdT τ (vT v) (vN v) p.1 = tC τ (vT v) 0 := by unfold kdT; rw [if_neg (by omega), if_pos k7]
    have w := (wb.lst k7).2
    have := idx_lt _ _ c p hp
    have := len_szs (vK v) fun p hp => vok_sz (q p hp)
    have n1 := a8 (Or.inl k7)
    rw [e]
    exact ⟨q p hp, w, (a9 0 (by omega)).2.2.2, by omega, fun k6 => by exfalso; omega⟩
  · obtain ⟨⟨w1, w2⟩, -, w3⟩ := wb.cho k9
    have e : kdT τ (vT v) (vN v) p.1 = tC τ (vT v) k := by unfold kdT; rw [if_neg (by omega), if_neg (by omega), c2, zn_cl (by omega)]
    rw [c3] at hp
    have hp' := List.mem_singleton.mp hp
    rw [e, hp']
    exact ⟨q, w3 k c1, (a9 k c1).2.2.2, by show 0 < 1000; omega, fun k6 => by exfalso; omega⟩
/-- all parts of a value -/
theorem wr_ok (hF : 1000 ≤ F) : ∀ (d : Nat) (v : Vt d) (i u : Nat) (of : Int32) (as t jt nf E : Nat) (q : Option Nat) (h : Hp), MP h → MT h τ N → PV h τ d v i u of as t → BW h d v i → VOk τ d v t → t < N → WFt τ jt t → jt ≤ 12 → i + sz d v ≤ 100 → u + oz d v ≤ 240 →
    ParI h τ N of q → (∀ q', q = some q' → tK τ q' = 6 → (as < tN τ q' ∧ tN τ q' ≤ 6 ∧ tF τ q' as ≤ 2) ∧ (tF τ q' as = 2 → tK τ (bas τ 200 t) = 1 ∨ tK τ (bas τ 200 t) = 2)) → as < 1000 → EN h E [] → gA h 3027 (i + sz d v) = zI ↑E → (encO τ q as d v t).length ≤ E →
    ∃ h', fX6_write_32 F dd (nf + sz d v) 3000 1 (zI (i + sz d v - 1 : Int)) h = fX6_write_32 F dd nf 3000 1 (zI (i - 1 : Int)) h' ∧ EN h' E (encO τ q as d v t) ∧ WW E i (i + sz d v) h h' ∧ gA h' 3027 i = zI ↑(E - (encO τ q as d v t).length) := by
  intro d
  induction d with
  | zero => intro v i u of as t jt nf E q h M T p; exact p.elim
  | succ d ih =>
    intro v i u of as t jt nf E q h M T p bw vo ht w hj hi hu P hq has e st hb
    have hN := T.1
    obtain ⟨jb, j1, wb, kb⟩ := w.base (by omega)
    have hv := vo.1
    have hvo := vo.2
    rw [← hv] at wb kb
    have p0 := p
    obtain ⟨p1, p2, p3⟩ := p
    have bw0 := bw
    obtain ⟨bw1, bw2⟩ := bw
    have sv := sz_s v
    have ov := oz_s v
    obtain ⟨-, -, -, -, -, hlt⟩ := unw_ok (F := F) (d := dd) M T ht w hj (by omega)
    rw [← hv] at hlt
    -- the kids
    have kids : ∀ (l : List (Nat × Vt d)) (j u nf E : Nat) (h : Hp), i < j → MP h → MT h τ N → gA h 3021 i = zI ↑t → PVs (fun w j u as => PV h τ d w j u (zI ↑i) as (kdT τ (vT v) (vN v) as)) l j u → PVs (fun w j _ _ => BW h d w j) l j 0 →
        (∀ p ∈ l, VOk τ d p.2 (kdT τ (vT v) (vN v) p.1) ∧ WFt τ jb (kdT τ (vT v) (vN v) p.1) ∧ kdT τ (vT v) (vN v) p.1 < N ∧ p.1 < 1000 ∧ (tK τ (vT v) = 6 → (p.1 < tN τ (vT v) ∧ tN τ (vT v) ≤ 6 ∧ tF τ (vT v) p.1 ≤ 2) ∧ (tF τ (vT v) p.1 = 2 → tK τ (bas τ 200 (kdT τ (vT v) (vN v) p.1)) = 1 ∨ tK τ (bas τ 200 (kdT τ (vT v) (vN v) p.1)) = 2))) →
        j + szs l ≤ 100 → u + ozs l ≤ 240 → EN h E [] → gA h 3027 (j + szs l) = zI ↑E → ((l.map fun p => encO τ (some (vT v)) p.1 d p.2 (kdT τ (vT v) (vN v) p.1)).flatten).length ≤ E →
        ∃ h', fX6_write_32 F dd (nf + szs l) 3000 1 (zI (j + szs l - 1 : Int)) h = fX6_write_32 F dd nf 3000 1 (zI (j - 1 : Int)) h' ∧ EN h' E ((l.map fun p => encO τ (some (vT v)) p.1 d p.2 (kdT τ (vT v) (vN v) p.1)).flatten) ∧ WW E j (j + szs l) h h' ∧ gA h' 3027 j = zI ↑(E - ((l.map fun p => encO τ (some (vT v)) p.1 d p.2 (kdT τ (vT v) (vN v) p.1)).flatten).length) := by
      intro l
      induction l with
      | nil =>
        intro j u nf E h hij M T h21 p bw hk h1 h2 e st hb
        rw [szs_nil] at st ⊢
        exact ⟨h, by simp, e, WW.rf _ _ _ _, by simpa using st⟩
      | cons x l ihl =>
        intro j u nf E h hij M T h21 p bw hk h1 h2 e st hb
        rw [szs_cons] at h1 st ⊢
        rw [ozs_cons] at h2
        rw [List.map_cons, List.flatten_cons, List.length_append] at hb
        rw [List.map_cons, List.flatten_cons]
        generalize hB : ((l.map fun p => encO τ (some (vT v)) p.1 d p.2 (kdT τ (vT v) (vN v) p.1)).flatten) = B at *
        have sp : 1 ≤ sz d x.2 := by
          cases d with
          | zero => exact p.1.elim
          | succ d => rw [sz_s]; omega
        obtain ⟨h1', e1, n1, w1, s1⟩ := ihl (j + sz d x.2) _ (nf + sz d x.2) E h (by omega) M T h21 p.2 (PVs.mono2 _ _ _ _ (fun _ _ _ _ _ _ _ r => r) bw.2) (fun p hp => hk p (List.mem_cons_of_mem _ hp)) (by omega) (by omega) e (by rw [Nat.add_assoc]; exact st) (by omega)
        have M1 := w1.mp M
        have T1 := w1.mt T
        obtain ⟨k1, k2, k3, k4, k5⟩ := hk x (List.mem_cons_self)
        have h21' : gA h1' 3021 i = zI ↑t := by rw [w1.2.2 _ _ (by omega) (by omega) (by omega) (by omega)]; exact h21
        obtain ⟨h2', e2, n2, w2, s2⟩ := ih x.2 j u (zI ↑i) x.1 _ jb nf (E - B.length) (some (vT v)) h1' M1 T1 (w1.pv p.1) (w1.bw bw.1) k1 k3 k2 (by omega) (by omega) (by omega) ⟨i, t, jt, rfl, by omega, h21', ht, w, hj, hv.symm⟩ (fun q' hq' k6 => by cases hq'; exact k5 k6) k4 ⟨by rw [n1.1]; rfl, Nat.zero_le _, by have := n1.2.2.1; omega, fun k y hy => by cases hy⟩ s1 (by omega)
        refine ⟨h2', ?_, n1.app n2 w2, w1.tr w2 (Nat.le_refl _) (by omega) (by omega) (by omega) (by omega) (by omega), ?_⟩
        · rw [show nf + (sz d x.2 + szs l) = nf + sz d x.2 + szs l by omega, show ((j : Int) + ↑(sz d x.2 + szs l) - 1) = (↑(j + sz d x.2) + ↑(szs l) - 1) by omega, e1, show ((↑(j + sz d x.2) : Int) - 1) = (j + sz d x.2 - 1) by omega, e2]
        · rw [s2, List.length_append]; congr 2; omega
    -- what is in it
    have hkids := vok_kids vo wb T hlt (by omega)
    have lno : lftO τ q as (vN v) = true → ¬ (tK τ (vT v) = 6 ∨ tK τ (vT v) = 7 ∨ tK τ (vT v) = 9) := by
      intro hl
      cases q with
      | none => cases hl
      | some q =>
        have hl' : (tK τ q == 6 && tF τ q as == 2 && tD τ q as == vN v) = true := hl
        rw [Bool.and_eq_true, Bool.and_eq_true, beq_iff_eq, beq_iff_eq] at hl'
        have := (hq q rfl hl'.1.1).2 hl'.1.2
        rw [← hv] at this
        omega
    have klen : ((vK v).map fun p => encO τ (some (vT v)) p.1 d p.2 (kdT τ (vT v) (vN v) p.1)).flatten.length ≤ E := by
      by_cases k : tK τ (vT v) = 6 ∨ tK τ (vT v) = 7 ∨ tK τ (vT v) = 9
      · rw [← kids_cat k rfl]
        unfold encO at hb
        cases hl : lftO τ q as (vNum (d + 1) v) with
        | true =>
          exfalso
          exact lno hl k
        | false =>
          rw [hl, if_neg (show ¬ (false = true) by decide)] at hb
          exact Nat.le_trans (wrp_ge (tgs τ 200 t none) _) (by rw [hv]; exact hb)
      · rw [vok_leaf vo k]; exact Nat.zero_le _
    obtain ⟨h1, e1, n1, w1, s1⟩ := kids (vK v) (i + 1) _ (nf + 1) E h (by omega) M T p1.1 p3 bw2 hkids (by omega) (by omega) e (by rw [show i + 1 + szs (vK v) = i + sz (d + 1) v by omega]; exact st) klen
    have M1 := w1.mp M
    have T1 := w1.mt T
    have A1 : ∀ y x, 3021 ≤ y → y ≤ 3026 → gA h1 y x = gA h y x := fun y x _ _ => w1.2.2 y x (by omega) (by omega) (by omega) (by omega)
    have P1 : PtI h1 i t of as (vN v) u := ⟨(A1 _ _ (by omega) (by omega)).trans p1.1, (A1 _ _ (by omega) (by omega)).trans p1.2.1, (A1 _ _ (by omega) (by omega)).trans p1.2.2.1, (A1 _ _ (by omega) (by omega)).trans p1.2.2.2.1, (A1 _ _ (by omega) (by omega)).trans p1.2.2.2.2⟩
    have Pa : ParI h1 τ N of q := by
      cases q with
      | none => exact P
      | some q =>
        obtain ⟨pi, tp, jt2, o1, o2, o3, o4⟩ := P
        exact ⟨pi, tp, jt2, o1, o2, (A1 _ _ (by omega) (by omega)).trans o3, o4⟩
    obtain ⟨h2, e2, U⟩ := left_ok (F := F) (dd := dd) M1 T1 P1 Pa (by omega) (fun q' hq' k6 => (hq q' hq' k6).1) has hF
    have w2 : WW E i (i + sz (d + 1) v) h h2 := w1.tr (WW.uw (E := E) (lo := 0) (hi := 0) U) (Nat.le_refl _) (Nat.le_refl _) (by omega) (by omega) (by omega) (by omega)
    have n2 := n1.uw U
    have M2 := U.mp M1
    have T2 := U.mt T1
    have em : zI ↑i + (-1) = zI (i - 1 : Int) := by rw [show (-1 : Int32) = zI (-1) from rfl, zI_add]; rfl
    have fin : ∀ (h3 : Hp) (B : List Nat), MP h3 → EN h3 E B → WW E i (i + sz (d + 1) v) h h3 → ∃ h', fX6_write_54 F dd (fX6_write_32 F dd nf) 3000 1 (zI ↑i) h3 = fX6_write_32 F dd nf 3000 1 (zI (i - 1 : Int)) h' ∧ EN h' E B ∧ WW E i (i + sz (d + 1) v) h h' ∧ gA h' 3027 i = zI ↑(E - B.length) := by
      intro h3 B M3 n3 w3
      refine ⟨sA h3 3027 i (zI ↑(E - B.length)), ?_, ⟨n3.1, n3.2.1, n3.2.2.1, fun k y hy => by rw [gA_sA, if_neg (by omega)]; exact n3.2.2.2 k y hy⟩, w3.tr (E2 := E) (lo2 := i) (hi2 := i + sz (d + 1) v) ⟨⟨rfl, rfl, rfl⟩, fun _ _ _ => rfl, fun y x q1 q2 q3 q4 => by rw [gA_sA, if_neg (by omega)]⟩ (Nat.le_refl _) (Nat.le_refl _) (by omega) (by omega) (by omega) (by omega), by rw [gA_sA, if_pos ⟨rfl, rfl⟩]⟩
      unfold fX6_write_54
      rw [M3.2, mp642, nn_s, ln3027, zn_inb (show i < 101 by omega) (by omega), ck_t, bn_d, bn_d, em, zn_cl (by omega), n3.1]
    rw [show nf + sz (d + 1) v = nf + 1 + szs (vK v) by omega, show ((i : Int) + ↑(sz (d + 1) v) - 1) = (↑(i + 1) + ↑(szs (vK v)) - 1) by omega, e1, show ((↑(i + 1) : Int) - 1) = ↑i by omega, fX6_write_32, if_neg (zn_nn i (by omega)), if_pos rfl, e2, ca_s]
    unfold encO at hb ⊢
    have vn : vNum (d + 1) v = vN v := rfl
    rw [vn] at hb ⊢
    cases hl : lftO τ q as (vN v) with
    | true =>
      rw [if_neg (show ¬ b2i true = 0 by decide), if_pos rfl]
      have k0 : vK v = [] := vok_leaf vo (lno hl)
      rw [k0] at n2
      exact fin h2 [] M2 n2 w2
    | false =>
      rw [hl, if_neg (show ¬ (false = true) by decide)] at hb
      rw [if_pos (show b2i false = 0 from rfl), if_neg (show ¬ (false = true) by decide)]
      have A2 : ∀ y x, ¬ y = 3016 → ¬ y = 3017 → gA h2 y x = gA h1 y x := fun y x q1 q2 => U.2.2.2.2.1 y x q1 q2
      have P2 : PtI h2 i t of as (vN v) u := ⟨(A2 _ _ (by omega) (by omega)).trans P1.1, (A2 _ _ (by omega) (by omega)).trans P1.2.1, (A2 _ _ (by omega) (by omega)).trans P1.2.2.1, (A2 _ _ (by omega) (by omega)).trans P1.2.2.2.1, (A2 _ _ (by omega) (by omega)).trans P1.2.2.2.2⟩
      have hW : ((vK v).map fun p => encO τ (some (vT v)) p.1 d p.2 (kdT τ (vT v) (vN v) p.1)).flatten = (if tK τ (vT v) = 6 ∨ tK τ (vT v) = 7 ∨ tK τ (vT v) = 9 then cnE τ (enc τ d) v (vT v) else []) := by
        by_cases k : tK τ (vT v) = 6 ∨ tK τ (vT v) = 7 ∨ tK τ (vT v) = 9
        · rw [if_pos k, kids_cat k rfl]
        · rw [if_neg k, vok_leaf vo k]; rfl
      obtain ⟨h3, e3, n3, w3⟩ := encode_ok (F := F) (dd := dd) (E := E) (v := v) (d := d) (i := i) (u := u) (as := as) (t := t) (of := of) M2 T2 P2 (fun q x hx => by rw [w2.2.2 _ _ (by omega) (by omega) (by omega) (by omega)]; exact p2 q x hx) ht w hj vo (by rw [w2.2.2 _ _ (by omega) (by omega) (by omega) (by omega)]; exact bw1) hi (by rw [w2.2.2 _ _ (by omega) (by omega) (by omega) (by omega)]; exact st) (by omega) n2 hW hb hF
      rw [e3, cv_s]
      exact fin h3 _ (w3.mp M2) n3 (w2.tr w3 (Nat.le_refl _) (Nat.le_refl _) (by omega) (by omega) (by omega) (by omega))
end Mw
