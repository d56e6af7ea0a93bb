/-! THE MODEL WRITES BITS (2): marks -/
set_option maxRecDepth 100000
/-- what packed writing changes -/
def PW (h h' : Hp) : Prop := (gP h' = gP h ∧ gL h' = gL h ∧ gR h' = gR h) ∧ (∀ g y, ¬ (y = 3000 ∧ (g = 623 ∨ g = 624 ∨ g = 630)) → gI h' g y = gI h g y) ∧ ∀ y i, ¬ y = 3016 → ¬ y = 3017 → ¬ y = 3020 → gA h' y i = gA h y i
theorem PW.rf (h : Hp) : PW h h := ⟨⟨rfl, rfl, rfl⟩, fun _ _ _ => rfl, fun _ _ _ _ _ => rfl⟩
theorem PW.tr {h1 h2 h3 : Hp} (a : PW h1 h2) (c : PW h2 h3) : PW h1 h3 :=
  ⟨⟨c.1.1.trans a.1.1, c.1.2.1.trans a.1.2.1, c.1.2.2.trans a.1.2.2⟩, fun g y q => (c.2.1 g y q).trans (a.2.1 g y q), fun y i q1 q2 q3 => (c.2.2 y i q1 q2 q3).trans (a.2.2 y i q1 q2 q3)⟩
theorem PO.pw {h h' : Hp} (a : PO h h') : PW h h' := ⟨⟨a.1, a.2.1, a.2.2.1⟩, fun g y q => a.2.2.2.1 g y (by omega), fun y i _ _ q => a.2.2.2.2 y i q⟩
theorem UW.pw {x : Nat} {h h' : Hp} (a : UW x h h') : PW h h' := ⟨⟨a.1, a.2.1, a.2.2.1⟩, fun g y q => a.2.2.2.1 g y (by omega), fun y i q1 q2 _ => a.2.2.2.2.1 y i q1 q2⟩
theorem PW.mp {h h' : Hp} (a : PW h h') (M : MP h) : MP h' := by
  unfold MP at M ⊢
  rw [a.1.1, a.1.2.1]; exact M
theorem PW.mt {h h' : Hp} {τ : Tb} {N : Nat} (a : PW h h') (T : MT h τ N) : MT h' τ N := T.fr fun y i _ _ => a.2.2 y i (by omega) (by omega) (by omega)
theorem PW.pv {h h' : Hp} (a : PW h h') {τ : Tb} {d : Nat} {v : Vt d} {i u : Nat} {of : Int32} {as t : Nat} (p : PV h τ d v i u of as t) : PV h' τ d v i u of as t :=
  p.fr2 (lo := 0) (fun y i _ _ _ => a.2.2 y i (by omega) (by omega) (by omega)) (fun i => a.2.2 _ i (by omega) (by omega) (by omega)) (Nat.zero_le _)
theorem PW.bw {h h' : Hp} (a : PW h h') {d : Nat} {v : Vt d} {i : Nat} (p : BW h d v i) : BW h' d v i :=
  BW.fr (h := h) (h' := h') (lo := 0) (hi := i + sz d v) (fun i _ _ => a.2.2 _ _ (by omega) (by omega) (by omega)) p (Nat.zero_le _) (Nat.le_refl _)
theorem PW.pt {h h' : Hp} (a : PW h h') {i t as u : Nat} {of x : Int32} (p : PtI h i t of as x u) : PtI h' i t of as x u := by
  obtain ⟨p1, p2, p3, p4, p5⟩ := p
  have A : ∀ y j, 3021 ≤ y → y ≤ 3026 → gA h' y j = gA h y j := fun y j _ _ => a.2.2 y j (by omega) (by omega) (by omega)
  exact ⟨(A _ _ (by omega) (by omega)).trans p1, (A _ _ (by omega) (by omega)).trans p2, (A _ _ (by omega) (by omega)).trans p3, (A _ _ (by omega) (by omega)).trans p4, (A _ _ (by omega) (by omega)).trans p5⟩
theorem WB.uw {x : Nat} {h h' : Hp} (U : UW x h h') {acc : List Bool} (B : WB h 3020 630 3000 acc) : WB h' 3020 630 3000 acc :=
  ⟨(U.2.2.2.1 _ _ (by omega)).trans B.1, fun i hi => (U.2.2.2.2.1 _ _ (by omega) (by omega)).trans (B.2 i hi)⟩
section Mm
variable {F dd N : Nat} {τ : Tb}
theorem pmk_1 {q k r d : Nat} {L : List (Nat × Vt d)} {x : Bool} (h : ¬ tF τ q k = 0) (hx : (match kidF L k with | none => false | some v => !lft τ q v) = x) : pmk τ q L (r + 1) k = x :: pmk τ q L r (k + 1) := by
  rw [pmk, if_neg h, ← hx]
  congr 1
/-- the marks of a part -/
theorem mmk_lp {i t q u0 S jt d : Nat} {of : Int32} {as : Nat} {x : Int32} (hi : i < 100) (hS : i + S ≤ 100) (ht : t < N) (w : WFt τ jt t) (hj : jt ≤ 12) (hqt : bas τ 200 t = q) (hq : q < N) (k6 : tK τ q = 6) (h6 : tN τ q ≤ 6) (hF2 : ∀ k, k < tN τ q → tF τ q k ≤ 2) (hF : 1000 ≤ F) :
    ∀ (r k nf : Nat) (h : Hp) (acc : List Bool) (j u : Nat) (l1 l2 L : List (Nat × Vt (d + 1))), L = l1 ++ l2 → MP h → MT h τ N → PtI h i t of as x u0 → gA h 3026 i = zI ↑S → j + szs l2 = i + S → i < j → PVs (fun w j u as => PV h τ (d + 1) w j u (zI ↑i) as (kdT τ q x as)) l2 j u → PVs (fun w j _ _ => BW h (d + 1) w j) l2 j 0 →
    (∀ p ∈ l1, p.1 < k) → inc k l2 (tN τ q) → k + r = tN τ q → WB h 3020 630 3000 acc → acc.length + r ≤ 32000 → r < nf →
    ∃ h', fX6_marks_7 F dd nf 3000 (zI ↑i) (zI ↑q) (zI ↑j) (zI ↑k) h = some h' ∧ WB h' 3020 630 3000 (acc ++ pmk τ q L r k) ∧ PW h h' := by
  intro r
  induction r with
  | zero =>
    intro k nf h acc j u l1 l2 L hL M T P b26 hj2 hij pv bw hl1 hinc hk B hlen hn
    obtain ⟨f, rfl⟩ : ∃ f, nf = f + 1 := ⟨nf - 1, by omega⟩
    have hN := T.1
    obtain ⟨⟨a1, a2, -⟩, -⟩ := T.2 q hq
    have : k = tN τ q := by omega
    subst this
    refine ⟨h, ?_, by rw [pmk, List.append_nil]; exact B, PW.rf h⟩
    rw [fX6_marks_7]
    simp (disch := omega) only [mp607, mp608, mp609, mp611, mp612, mp613, mp614, mp615, mp616, mp617, mp618, mp619, mp620, mp621, mp622, mp625, mp626, mp631, mp632, mp633, mp636, mp637, mp638, mp639, mp640, mp641, mp642, mp643, mp645, mp646, mp650, mp651, mp652, mp653, mp654, mp655, mp656, mp657, mp658, ln3001, ln3002, ln3003, ln3004, ln3005, ln3006, ln3007, ln3008, ln3009, ln3010, ln3011, ln3012, ln3013, ln3014, ln3015, ln3016, ln3017, ln3018, ln3019, ln3020, ln3021, ln3022, ln3023, ln3024, ln3025, ln3026, ln3027, ln3028, ln3029, ln3030, ln3031, ln3032, ln3033, ln3034, ln3035, ln3036, ln3037, ln3038, ln3039, ck_t, nn_s, bn_d, ca_s, cv_s, oc_n, oc_s, cx_i, cx_r, cy_i, cy_r, gI_sI, gI_sP, gI_sA, gI_sR, gI_sJ, gI_nw, gI_nx, gP_sI, gP_sP, gP_sA, gP_sR, gP_sJ, gP_nw, gP_nx, gA_sI, gA_sP, gA_sA, gA_sR, gA_sJ, gA_nw, gA_nx, gR_sI, gR_sP, gR_sA, gR_sR, gR_sJ, gR_nw, gR_nx, reduceCtorEq, Nat.reduceEqDiff, or_self, or_true, true_or, or_false, false_or, eq_self, and_self, and_true, true_and, and_false, false_and, if_true, if_false, ↓reduceIte, ne_eq, not_true_eq_false, not_false_eq_true, zl0, zl1, zl2, zl3, zl4, zl5, zl6, zl7, zl8, zl9, zl10, zl12, zl15, zl16, zl20, zl31, zl32, zl48, zl97, zl99, zl100, zl120, zl127, zl128, zl129, zl130, zl137, zl150, zl160, zl169, zl254, zl255, zl256, zl4000, zl65535, zl65536, if_pos, if_neg, zn_inb, zn_cl, zn_eq, zn_lt, zn_le, zn_add, zn_sub, zn_mul, zn_addn, zn_eqn, zn_neq, zn_nlt, zn_nle, zn_ckb, isB_b2i, b2z0, b2z1, b2it, b2if, M.2, a2]
  | succ r ih =>
    intro k nf h acc j u l1 l2 L hL M T P b26 hj2 hij pv bw hl1 hinc hk B hlen hn
    obtain ⟨f, rfl⟩ : ∃ f, nf = f + 1 := ⟨nf - 1, by omega⟩
    have hN := T.1
    obtain ⟨⟨a1, a2, -⟩, -, -, -, a9⟩ := T.2 q hq
    obtain ⟨c1, c2, c3, c4⟩ := a9 k (by omega)
    have fk := hF2 k (by omega)
    have e6 : (6 : Int32) * zI ↑q + zI ↑k = zI ↑(6 * q + k) := by rw [zl6, zn_mul, zn_add]
    -- one step on, over a heap
    have fin : ∀ (h1 : Hp) (acc1 : List Bool) (b : Nat) (j1 u1 : Nat) (l1' l2' : List (Nat × Vt (d + 1))), PW h h1 → L = l1' ++ l2' → j1 + szs l2' = i + S → i < j1 → PVs (fun w j u as => PV h1 τ (d + 1) w j u (zI ↑i) as (kdT τ q x as)) l2' j1 u1 → PVs (fun w j _ _ => BW h1 (d + 1) w j) l2' j1 0 →
        (∀ p ∈ l1', p.1 < k + 1) → inc (k + 1) l2' (tN τ q) → WB h1 3020 630 3000 acc1 → acc1 ++ pmk τ q L r (k + 1) = acc ++ pmk τ q L (r + 1) k → acc1.length ≤ acc.length + 1 → (if b = 0 then j1 = j else b = 1 ∧ j < 100 ∧ gA h1 3026 j = zI ↑(j1 - j) ∧ j ≤ j1) →
        ∃ h', fX6_marks_86 F dd (fX6_marks_7 F dd f) 3000 (zI ↑i) (zI ↑q) (zI ↑j) (zI ↑k) (zI ↑b) h1 = some h' ∧ WB h' 3020 630 3000 (acc ++ pmk τ q L (r + 1) k) ∧ PW h h' := by
      intro h1 acc1 b j1 u1 l1' l2' O1 e1 e2 e3 e4 e5 e7 e8 B1 e9 e10 e11
      obtain ⟨h', y1, y2, y3⟩ := ih (k + 1) f h1 acc1 j1 u1 l1' l2' L e1 (O1.mp M) (O1.mt T) (O1.pt P) ((O1.2.2 _ _ (by omega) (by omega) (by omega)).trans b26) e2 e3 e4 e5 e7 e8 (by omega) B1 (by omega) (by omega)
      refine ⟨h', ?_, by rw [← e9]; exact y2, O1.tr y3⟩
      unfold fX6_marks_86 fX6_marks_102
      by_cases c : b = 0
      · subst c
        rw [if_pos rfl] at e11
        subst e11
        rw [if_pos z00, bn_d, bn_d, zl0, zn_add, zn_succ, Nat.add_zero]
        exact y1
      · rw [if_neg c] at e11
        obtain ⟨e12, e13, e14, e15⟩ := e11
        subst e12
        rw [if_neg (by decide), (O1.mp M).2, mp641, nn_s, ln3026, zn_inb (show j < 100 by omega) (by omega), ck_t, bn_d, bn_d, zn_cl (by omega), e14, zn_add, zn_succ, show j + (j1 - j) = j1 by omega]
        exact y1
    have M0 := M.2
    -- it is not there
    have absent : (∀ v l, l2 ≠ (k, v) :: l) → fX6_marks_7 F dd (f + 1) 3000 (zI ↑i) (zI ↑q) (zI ↑j) (zI ↑k) h = fX6_marks_45 F dd (fX6_marks_7 F dd f) 3000 (zI ↑i) (zI ↑q) (zI ↑j) (zI ↑k) h → ∃ h', fX6_marks_7 F dd (f + 1) 3000 (zI ↑i) (zI ↑q) (zI ↑j) (zI ↑k) h = some h' ∧ WB h' 3020 630 3000 (acc ++ pmk τ q L (r + 1) k) ∧ PW h h' := by
      intro hno e
      rw [e]
      have kn : kidF L k = none := by
        apply kidF_n
        intro p hp
        rw [hL] at hp
        rcases List.mem_append.mp hp with z | z
        · have := hl1 p z; omega
        · cases l2 with
          | nil => cases z
          | cons x2 l2 =>
            have hne : x2.1 ≠ k := fun z => hno x2.2 l2 (by rw [← z])
            have g1 := hinc.1
            rcases List.mem_cons.mp z with z | z
            · rw [z]; exact hne
            · have := (hinc.2.2.mem p z).1; omega
      have hinc' : inc (k + 1) l2 (tN τ q) := by
        cases l2 with
        | nil => trivial
        | cons x2 l2 =>
          have hne : x2.1 ≠ k := fun z => hno x2.2 l2 (by rw [← z])
          have g1 := hinc.1
          exact ⟨by omega, hinc.2⟩
      unfold fX6_marks_45 fX6_marks_46
      rw [M0, mp621, nn_s, e6, ln3014, zn_inb (show 6 * q + k < 960 by omega) (by omega), ck_t, zn_cl (by omega), c2]
      by_cases f0 : tF τ q k = 0
      · rw [if_pos (by rw [f0]; rfl)]
        exact fin h acc 0 j u l1 l2 (PW.rf h) hL hj2 hij pv bw (fun p hp => by have := hl1 p hp; omega) hinc' B (by rw [pmk, if_pos f0]) (by omega) (by rw [if_pos rfl])
      · rw [if_neg (zn_ne 0 (v := 0) f0 rfl (by omega) (by omega)), if_pos rfl]
        unfold fX6_marks_81 fX6_marks_82
        obtain ⟨h1, y1, B1, O1⟩ := brg_ok (F := F) (d := dd) (v := 0) (n := 1) B M (by omega) (by omega) hF
        rw [show (1 : Int32) = zI ↑(1 : Nat) from rfl, y1, cv_s]
        have O1 := O1.pw
        refine fin h1 _ 0 j u l1 l2 O1 hL hj2 hij (PVs.mono _ _ _ (fun _ _ _ _ _ _ _ _ r => O1.pv r) pv) (PVs.mono2 _ _ _ _ (fun _ _ _ _ _ _ _ r => O1.bw r) bw) (fun p hp => by have := hl1 p hp; omega) hinc' B1 ?_ (by rw [List.length_append]; simp [btL_len]) (by rw [if_pos rfl])
        rw [pmk_1 (x := false) f0 (by rw [kn]), List.append_assoc]
        rfl
    cases l2 with
    | nil =>
      refine absent (fun v l => by intro z; cases z) ?_
      rw [szs_nil] at hj2
      rw [fX6_marks_7]
      simp (disch := omega) only [mp607, mp608, mp609, mp611, mp612, mp613, mp614, mp615, mp616, mp617, mp618, mp619, mp620, mp621, mp622, mp625, mp626, mp631, mp632, mp633, mp636, mp637, mp638, mp639, mp640, mp641, mp642, mp643, mp645, mp646, mp650, mp651, mp652, mp653, mp654, mp655, mp656, mp657, mp658, ln3001, ln3002, ln3003, ln3004, ln3005, ln3006, ln3007, ln3008, ln3009, ln3010, ln3011, ln3012, ln3013, ln3014, ln3015, ln3016, ln3017, ln3018, ln3019, ln3020, ln3021, ln3022, ln3023, ln3024, ln3025, ln3026, ln3027, ln3028, ln3029, ln3030, ln3031, ln3032, ln3033, ln3034, ln3035, ln3036, ln3037, ln3038, ln3039, ck_t, nn_s, bn_d, ca_s, cv_s, oc_n, oc_s, cx_i, cx_r, cy_i, cy_r, gI_sI, gI_sP, gI_sA, gI_sR, gI_sJ, gI_nw, gI_nx, gP_sI, gP_sP, gP_sA, gP_sR, gP_sJ, gP_nw, gP_nx, gA_sI, gA_sP, gA_sA, gA_sR, gA_sJ, gA_nw, gA_nx, gR_sI, gR_sP, gR_sA, gR_sR, gR_sJ, gR_nw, gR_nx, reduceCtorEq, Nat.reduceEqDiff, or_self, or_true, true_or, or_false, false_or, eq_self, and_self, and_true, true_and, and_false, false_and, if_true, if_false, ↓reduceIte, ne_eq, not_true_eq_false, not_false_eq_true, zl0, zl1, zl2, zl3, zl4, zl5, zl6, zl7, zl8, zl9, zl10, zl12, zl15, zl16, zl20, zl31, zl32, zl48, zl97, zl99, zl100, zl120, zl127, zl128, zl129, zl130, zl137, zl150, zl160, zl169, zl254, zl255, zl256, zl4000, zl65535, zl65536, if_pos, if_neg, zn_inb, zn_cl, zn_eq, zn_lt, zn_le, zn_add, zn_sub, zn_mul, zn_addn, zn_eqn, zn_neq, zn_nlt, zn_nle, zn_ckb, isB_b2i, b2z0, b2z1, b2it, b2if, M.2, a2, b26]
    | cons x2 l2 =>
      rw [szs_cons] at hj2
      have sp := sz_s x2.2
      obtain ⟨pt, po, pk⟩ := pv.1
      have hjj : j < 100 := by omega
      by_cases ck : x2.1 = k
      · -- it is there
        obtain ⟨kk, v⟩ := x2
        have ck : kk = k := ck
        have hj2 : j + (sz (d + 1) v + szs l2) = i + S := hj2
        subst ck
        have kf : kidF L kk = some (kk, v) := by rw [hL]; exact kidF_y l1 l2 hl1
        have st : fX6_marks_7 F dd (f + 1) 3000 (zI ↑i) (zI ↑q) (zI ↑j) (zI ↑kk) h = fX6_marks_46 F dd (fX6_marks_7 F dd f) 3000 (zI ↑i) (zI ↑q) (zI ↑j) (zI ↑kk) 1 h := by
          have p3 := pt.2.2.1
          rw [fX6_marks_7]
          simp (disch := omega) only [mp607, mp608, mp609, mp611, mp612, mp613, mp614, mp615, mp616, mp617, mp618, mp619, mp620, mp621, mp622, mp625, mp626, mp631, mp632, mp633, mp636, mp637, mp638, mp639, mp640, mp641, mp642, mp643, mp645, mp646, mp650, mp651, mp652, mp653, mp654, mp655, mp656, mp657, mp658, ln3001, ln3002, ln3003, ln3004, ln3005, ln3006, ln3007, ln3008, ln3009, ln3010, ln3011, ln3012, ln3013, ln3014, ln3015, ln3016, ln3017, ln3018, ln3019, ln3020, ln3021, ln3022, ln3023, ln3024, ln3025, ln3026, ln3027, ln3028, ln3029, ln3030, ln3031, ln3032, ln3033, ln3034, ln3035, ln3036, ln3037, ln3038, ln3039, ck_t, nn_s, bn_d, ca_s, cv_s, oc_n, oc_s, cx_i, cx_r, cy_i, cy_r, gI_sI, gI_sP, gI_sA, gI_sR, gI_sJ, gI_nw, gI_nx, gP_sI, gP_sP, gP_sA, gP_sR, gP_sJ, gP_nw, gP_nx, gA_sI, gA_sP, gA_sA, gA_sR, gA_sJ, gA_nw, gA_nx, gR_sI, gR_sP, gR_sA, gR_sR, gR_sJ, gR_nw, gR_nx, reduceCtorEq, Nat.reduceEqDiff, or_self, or_true, true_or, or_false, false_or, eq_self, and_self, and_true, true_and, and_false, false_and, if_true, if_false, ↓reduceIte, ne_eq, not_true_eq_false, not_false_eq_true, zl0, zl1, zl2, zl3, zl4, zl5, zl6, zl7, zl8, zl9, zl10, zl12, zl15, zl16, zl20, zl31, zl32, zl48, zl97, zl99, zl100, zl120, zl127, zl128, zl129, zl130, zl137, zl150, zl160, zl169, zl254, zl255, zl256, zl4000, zl65535, zl65536, if_pos, if_neg, zn_inb, zn_cl, zn_eq, zn_lt, zn_le, zn_add, zn_sub, zn_mul, zn_addn, zn_eqn, zn_neq, zn_nlt, zn_nle, zn_ckb, isB_b2i, b2z0, b2z1, b2it, b2if, M.2, a2, b26, p3]
        rw [st]
        have fin2 : ∀ (h1 : Hp) (acc1 : List Bool), PW h h1 → WB h1 3020 630 3000 acc1 → acc1 ++ pmk τ q L r (kk + 1) = acc ++ pmk τ q L (r + 1) kk → acc1.length ≤ acc.length + 1 → ∃ h', fX6_marks_86 F dd (fX6_marks_7 F dd f) 3000 (zI ↑i) (zI ↑q) (zI ↑j) (zI ↑kk) 1 h1 = some h' ∧ WB h' 3020 630 3000 (acc ++ pmk τ q L (r + 1) kk) ∧ PW h h' := by
          intro h1 acc1 O1 B1 e9 e10
          refine fin h1 acc1 1 (j + sz (d + 1) v) (u + oz (d + 1) v) (l1 ++ [(kk, v)]) l2 O1 (by rw [hL]; simp) (by omega) (by omega) (PVs.mono _ _ _ (fun _ _ _ _ _ _ _ _ r => O1.pv r) pv.2) (PVs.mono2 _ _ _ _ (fun _ _ _ _ _ _ _ r => O1.bw r) bw.2) (fun p hp => ?_) hinc.2.2 B1 e9 e10 ?_
          · rcases List.mem_append.mp hp with z | z
            · have := hl1 p z; omega
            · rw [List.mem_singleton.mp z]; show kk < kk + 1; omega
          · rw [if_neg (by omega)]
            refine ⟨rfl, hjj, ?_, by omega⟩
            rw [O1.2.2 _ _ (by omega) (by omega) (by omega), bw.1.1]
            congr 2; omega
        unfold fX6_marks_46
        rw [M0, mp621, nn_s, e6, ln3014, zn_inb (show 6 * q + kk < 960 by omega) (by omega), ck_t, zn_cl (by omega), c2]
        by_cases f0 : tF τ q kk = 0
        · rw [if_pos (by rw [f0]; rfl)]
          exact fin2 h acc (PW.rf h) B (by rw [pmk, if_pos f0]) (by omega)
        · rw [if_neg (zn_ne 0 (v := 0) f0 rfl (by omega) (by omega)), if_neg (by decide)]
          obtain ⟨h1, y1, U1⟩ := left_ok (F := F) (dd := dd) (q := some q) M T pt ⟨i, t, jt, rfl, hi, P.1, ht, w, hj, hqt⟩ hjj (fun q' hq' _ => by cases hq'; exact ⟨by omega, h6, fk⟩) (by omega) hF
          have lf : lftO τ (some q) kk (vN v) = lft τ q (kk, v) := rfl
          rw [lf] at y1
          rw [y1, ca_s]
          have B1 := B.uw U1
          cases hl : lft τ q (kk, v) with
          | true =>
            rw [if_neg (by decide)]
            unfold fX6_marks_81 fX6_marks_82
            obtain ⟨h2, y2, B2, O2⟩ := brg_ok (F := F) (d := dd) (v := 0) (n := 1) B1 (U1.mp M) (by omega) (by omega) hF
            rw [show (1 : Int32) = zI ↑(1 : Nat) from rfl, y2, cv_s]
            refine fin2 h2 _ (U1.pw.tr O2.pw) B2 ?_ (by rw [List.length_append]; simp [btL_len])
            rw [pmk_1 (x := false) f0 (by rw [kf]; show (!lft τ q (kk, v)) = false; rw [hl]; rfl), List.append_assoc]
            rfl
          | false =>
            rw [if_pos (by decide)]
            unfold fX6_marks_82
            obtain ⟨h2, y2, B2, O2⟩ := brg_ok (F := F) (d := dd) (v := 1) (n := 1) B1 (U1.mp M) (by omega) (by omega) hF
            have y2' : fX6_bring F dd 3000 1 1 h1 = some h2 := y2
            rw [y2', cv_s]
            refine fin2 h2 _ (U1.pw.tr O2.pw) B2 ?_ (by rw [List.length_append]; simp [btL_len])
            rw [pmk_1 (x := true) f0 (by rw [kf]; show (!lft τ q (kk, v)) = true; rw [hl]; rfl), List.append_assoc]
            rfl
      · refine absent (fun v l z => ck (by cases z; rfl)) ?_
        have p3 := pt.2.2.1
        have g1 := hinc.1
        have g2 := hinc.2.1
        rw [fX6_marks_7]
        simp (disch := omega) only [mp607, mp608, mp609, mp611, mp612, mp613, mp614, mp615, mp616, mp617, mp618, mp619, mp620, mp621, mp622, mp625, mp626, mp631, mp632, mp633, mp636, mp637, mp638, mp639, mp640, mp641, mp642, mp643, mp645, mp646, mp650, mp651, mp652, mp653, mp654, mp655, mp656, mp657, mp658, ln3001, ln3002, ln3003, ln3004, ln3005, ln3006, ln3007, ln3008, ln3009, ln3010, ln3011, ln3012, ln3013, ln3014, ln3015, ln3016, ln3017, ln3018, ln3019, ln3020, ln3021, ln3022, ln3023, ln3024, ln3025, ln3026, ln3027, ln3028, ln3029, ln3030, ln3031, ln3032, ln3033, ln3034, ln3035, ln3036, ln3037, ln3038, ln3039, ck_t, nn_s, bn_d, ca_s, cv_s, oc_n, oc_s, cx_i, cx_r, cy_i, cy_r, gI_sI, gI_sP, gI_sA, gI_sR, gI_sJ, gI_nw, gI_nx, gP_sI, gP_sP, gP_sA, gP_sR, gP_sJ, gP_nw, gP_nx, gA_sI, gA_sP, gA_sA, gA_sR, gA_sJ, gA_nw, gA_nx, gR_sI, gR_sP, gR_sA, gR_sR, gR_sJ, gR_nw, gR_nx, reduceCtorEq, Nat.reduceEqDiff, or_self, or_true, true_or, or_false, false_or, eq_self, and_self, and_true, true_and, and_false, false_and, if_true, if_false, ↓reduceIte, ne_eq, not_true_eq_false, not_false_eq_true, zl0, zl1, zl2, zl3, zl4, zl5, zl6, zl7, zl8, zl9, zl10, zl12, zl15, zl16, zl20, zl31, zl32, zl48, zl97, zl99, zl100, zl120, zl127, zl128, zl129, zl130, zl137, zl150, zl160, zl169, zl254, zl255, zl256, zl4000, zl65535, zl65536, if_pos, if_neg, zn_inb, zn_cl, zn_eq, zn_lt, zn_le, zn_add, zn_sub, zn_mul, zn_addn, zn_eqn, zn_neq, zn_nlt, zn_nle, zn_ckb, isB_b2i, b2z0, b2z1, b2it, b2if, M.2, a2, b26, p3]
end Mm
