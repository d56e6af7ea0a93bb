/-! THE STORE: making parts; tags at a place -/
set_option maxRecDepth 100000
/-- the class's tag of a byte -/
def tgC (x : Nat) : Int := if x / 64 = 0 ∧ 0 < x % 32 ∧ x % 32 < 20 then (x % 32 : Nat) else if x / 64 = 2 ∧ x % 32 < 10 then (20 + x % 32 : Nat) else -1
def tagI (x : Int32) : Int32 := if x >>> 6 = 0 then (if x &&& 31 ≤ 0 then (if x >>> 6 = 2 then (if 10 ≤ x &&& 31 then -1 else 20 + (x &&& 31)) else -1) else if 20 ≤ x &&& 31 then (if x >>> 6 = 2 then (if 10 ≤ x &&& 31 then -1 else 20 + (x &&& 31)) else -1) else x &&& 31) else (if x >>> 6 = 2 then (if 10 ≤ x &&& 31 then -1 else 20 + (x &&& 31)) else -1)
theorem tagI_tab : ((List.range 256).all fun x => decide (tagI (zI ↑x) = zI (tgC x))) = true := by decide +kernel
theorem tagI_eq {x : Nat} (hx : x < 256) : tagI (zI ↑x) = zI (tgC x) := of_decide_eq_true (List.all_eq_true.mp tagI_tab x (List.mem_range.mpr hx))
section Sto
variable {h : Hp} {sb f n a e o F d m : Nat} {b : Nat → Nat}
theorem tag_ok (p : SrcP h sb) (B : Buf h f n b) (A : SrcA h f a e o) (he : e ≤ n) : fX4_tag F d 300 h = some (if a < e then zI (tgC (b a)) else -1, h) ∨ e < a := by
  have hn := B.1
  by_cases c0 : e < a
  · exact Or.inr c0
  left
  unfold fX4_tag fX4_tag_57
  rw [A.1, A.2.1]
  by_cases c : a < e
  · rw [if_pos ((zn_lt (by omega) (by omega)).mpr (by omega)), if_pos c]
    simp only [p.2.1, nn_s, show nd_Ln 101 = 120 from rfl, zn_inb (show f + a < 120 by omega) (show 120 < 2147483648 by omega), ck_t, bn_d, zn_cl (show f + a < 2147483648 by omega), (B.2 a (by omega)).1, show (6 : Int32) &&& 31 = 6 from rfl]
    rw [← tagI_eq (B.2 a (by omega)).2]
    unfold tagI
    repeat' split
    all_goals first | rfl | (exfalso; simp_all; done)
  · rw [if_neg (fun q => by rw [zn_lt (by omega) (by omega)] at q; omega), if_neg c]
/-- a store: its cells, its parts that were made -/
def StP (h : Hp) (sb : Nat) : Prop := (sb = 1000 ∨ sb = 2000) ∧ (gL h sb = true ∧ gL h (sb + 1) = true ∧ gL h (sb + 2) = true ∧ gL h (sb + 3) = true) ∧ (gP h 300 sb = some (sb + 1) ∧ gP h 301 sb = some (sb + 2) ∧ gP h 302 sb = some (sb + 3)) ∧
  ∀ i, i < 100 → (gR h (sb + 1) i = none ∧ gL h (sb + 10 + i) = false) ∨ (gR h (sb + 1) i = some (sb + 10 + i) ∧ gL h (sb + 10 + i) = true)
/-- parts from m on may have changed, no others -/
def PF (sb m : Nat) (h h' : Hp) : Prop := ∀ i, i < m → ∀ f, gI h' f (sb + 10 + i) = gI h f (sb + 10 + i) ∧ gP h' f (sb + 10 + i) = gP h f (sb + 10 + i)
theorem PF.rf (sb m : Nat) (h : Hp) : PF sb m h h := fun _ _ _ => ⟨rfl, rfl⟩
theorem PF.tr {sb m m' : Nat} {h1 h2 h3 : Hp} (a : PF sb m h1 h2) (c : m ≤ m') (b : PF sb m' h2 h3) : PF sb m h1 h3 := fun i hi f =>
  ⟨(b i (by omega) f).1.trans (a i hi f).1, (b i (by omega) f).2.trans (a i hi f).2⟩
theorem nd_Kp (hs : sb = 1000 ∨ sb = 2000) (hm : m < 100) : nd_Kd (sb + 10 + m) = 13 := by
  unfold nd_Kd nd_K0
  rw [if_pos (by omega)]
  have : nd_Kl.lookup (sb + 10 + m) = none := by
    have hk : ∀ (L : List (Nat × Nat × Nat)), (L.all fun r => decide (r.1 < 1010) || (decide (1110 ≤ r.1) && decide (r.1 < 2010)) || decide (2110 ≤ r.1)) = true → L.lookup (sb + 10 + m) = none := by
      intro L
      induction L with
      | nil => intro _; rfl
      | cons r L ih =>
        intro hL
        rw [List.all_cons, Bool.and_eq_true] at hL
        obtain ⟨q1, q2⟩ := hL
        simp only [Bool.or_eq_true, Bool.and_eq_true, decide_eq_true_eq] at q1
        rw [List.lookup_cons]
        have : (sb + 10 + m == r.1) = false := by
          rw [beq_eq_false_iff_ne]; omega
        rw [this]
        exact ih q2
    exact hk nd_Kl (by decide)
  rw [this]
  show (if _ then 13 else 99) = 13
  rw [if_pos (by omega)]
/-- what making a part does -/
def Made (sb m : Nat) (k x : Int32) (h h' : Hp) : Prop :=
  gI h' 303 sb = zI ↑(m + 1) ∧ gI h' 304 sb = gI h 304 sb ∧ gL h' (sb + 10 + m) = true ∧
  (gI h' 1700 (sb + 10 + m) = k ∧ gI h' 1701 (sb + 10 + m) = x ∧ gI h' 1702 (sb + 10 + m) = gI h 304 sb) ∧
  (gP h' 1706 (sb + 10 + m) = none ∧ gP h' 1707 (sb + 10 + m) = none ∧ gP h' 1708 (sb + 10 + m) = none) ∧ PF sb m h h' ∧ ∀ y i, y ≠ sb + 10 + m → gA h' y i = gA h y i
theorem make_39 (s : StP h sb) (hm : m < 100) (c : gI h 303 sb = zI m) (al : gR h (sb + 1) m = some (sb + 10 + m)) (al2 : gL h (sb + 10 + m) = true) (k x : Int32) :
    ∃ h', fX3_make_39 F d sb k x h = some (some (sb + 10 + m), h') ∧ StP h' sb ∧ Made sb m k x h h' := by
  obtain ⟨s0, s1, s2, s3⟩ := s
  have l1 : nd_Ln (sb + 1) = 100 := by rcases s0 with q | q <;> rw [q] <;> rfl
  have n1 : ¬ sb + 10 + m = sb := by omega
  have n2 : ∀ i, i < m → ¬ sb + 10 + i = sb + 10 + m := fun i hi => by omega
  have n3 : ∀ i, ¬ sb + 10 + i = sb := fun i => by omega
  unfold fX3_make_39
  simp only [s2.1, nn_s, c, l1, zn_inb hm (show 100 < 2147483648 by omega), ck_t, zn_cl (show m < 2147483648 by omega), al, bn_d, zn_succ]
  refine ⟨_, rfl, ⟨s0, s1, s2, ?_⟩, ?_, ?_, al2, ⟨?_, ?_, ?_⟩, ⟨?_, ?_, ?_⟩, fun i hi f => ⟨?_, ?_⟩, fun y i hy => rfl⟩
  · rcases s0 with q | q <;> (subst q; exact s3)
  · simp [gI_sI, gI_sP, gI_sA, gI_sR, gI_sJ, gI_nw, gI_nx, gP_sI, gP_sP, gP_sA, gP_sR, gP_sJ, gP_nw, gP_nx, gA_sI, gA_sP, gA_sA, gA_sR, gA_sJ, gA_nw, gA_nx, gR_sI, gR_sP, gR_sA, gR_sR, gR_sJ, gR_nw, gR_nx]
  · simp only [gI_sI, gI_sP, gI_sA, gI_sR, gI_sJ, gI_nw, gI_nx, gP_sI, gP_sP, gP_sA, gP_sR, gP_sJ, gP_nw, gP_nx, gA_sI, gA_sP, gA_sA, gA_sR, gA_sJ, gA_nw, gA_nx, gR_sI, gR_sP, gR_sA, gR_sR, gR_sJ, gR_nw, gR_nx]
    rw [if_neg (by omega), if_neg (by omega), if_neg (by omega), if_neg (by omega), if_neg (by omega)]
  · simp [gI_sI, gI_sP, gI_sA, gI_sR, gI_sJ, gI_nw, gI_nx, gP_sI, gP_sP, gP_sA, gP_sR, gP_sJ, gP_nw, gP_nx, gA_sI, gA_sP, gA_sA, gA_sR, gA_sJ, gA_nw, gA_nx, gR_sI, gR_sP, gR_sA, gR_sR, gR_sJ, gR_nw, gR_nx]
  · simp [gI_sI, gI_sP, gI_sA, gI_sR, gI_sJ, gI_nw, gI_nx, gP_sI, gP_sP, gP_sA, gP_sR, gP_sJ, gP_nw, gP_nx, gA_sI, gA_sP, gA_sA, gA_sR, gA_sJ, gA_nw, gA_nx, gR_sI, gR_sP, gR_sA, gR_sR, gR_sJ, gR_nw, gR_nx]
  · simp [gI_sI, gI_sP, gI_sA, gI_sR, gI_sJ, gI_nw, gI_nx, gP_sI, gP_sP, gP_sA, gP_sR, gP_sJ, gP_nw, gP_nx, gA_sI, gA_sP, gA_sA, gA_sR, gA_sJ, gA_nw, gA_nx, gR_sI, gR_sP, gR_sA, gR_sR, gR_sJ, gR_nw, gR_nx]
  · simp [gI_sI, gI_sP, gI_sA, gI_sR, gI_sJ, gI_nw, gI_nx, gP_sI, gP_sP, gP_sA, gP_sR, gP_sJ, gP_nw, gP_nx, gA_sI, gA_sP, gA_sA, gA_sR, gA_sJ, gA_nw, gA_nx, gR_sI, gR_sP, gR_sA, gR_sR, gR_sJ, gR_nw, gR_nx]
  · simp [gI_sI, gI_sP, gI_sA, gI_sR, gI_sJ, gI_nw, gI_nx, gP_sI, gP_sP, gP_sA, gP_sR, gP_sJ, gP_nw, gP_nx, gA_sI, gA_sP, gA_sA, gA_sR, gA_sJ, gA_nw, gA_nx, gR_sI, gR_sP, gR_sA, gR_sR, gR_sJ, gR_nw, gR_nx]
  · simp [gI_sI, gI_sP, gI_sA, gI_sR, gI_sJ, gI_nw, gI_nx, gP_sI, gP_sP, gP_sA, gP_sR, gP_sJ, gP_nw, gP_nx, gA_sI, gA_sP, gA_sA, gA_sR, gA_sJ, gA_nw, gA_nx, gR_sI, gR_sP, gR_sA, gR_sR, gR_sJ, gR_nw, gR_nx]
  · simp only [gI_sI, gI_sP, gI_sA, gI_sR, gI_sJ, gI_nw, gI_nx, gP_sI, gP_sP, gP_sA, gP_sR, gP_sJ, gP_nw, gP_nx, gA_sI, gA_sP, gA_sA, gA_sR, gA_sJ, gA_nw, gA_nx, gR_sI, gR_sP, gR_sA, gR_sR, gR_sJ, gR_nw, gR_nx]
    rw [if_neg (by omega), if_neg (by omega), if_neg (by omega), if_neg (by omega), if_neg (by omega)]
  · simp only [gI_sI, gI_sP, gI_sA, gI_sR, gI_sJ, gI_nw, gI_nx, gP_sI, gP_sP, gP_sA, gP_sR, gP_sJ, gP_nw, gP_nx, gA_sI, gA_sP, gA_sA, gA_sR, gA_sJ, gA_nw, gA_nx, gR_sI, gR_sP, gR_sA, gR_sR, gR_sJ, gR_nw, gR_nx]
    rw [if_neg (by omega), if_neg (by omega), if_neg (by omega)]
theorem make_ok (s : StP h sb) (c : gI h 303 sb = zI m) (hm : m < 100) (k x : Int32) :
    ∃ h', fX3_make F d sb k x h = some (some (sb + 10 + m), h') ∧ StP h' sb ∧ Made sb m k x h h' := by
  have s0 := s.1
  have l1 : nd_Ln (sb + 1) = 100 := by rcases s0 with q | q <;> rw [q] <;> rfl
  unfold fX3_make
  rw [c, if_pos (show zI ↑m < 100 from (zn_lt (b := 100) (by omega) (by omega)).mpr hm)]
  rcases s.2.2.2 m hm with ⟨q1, q2⟩ | ⟨q1, q2⟩
  · have kd := nd_Kp s0 hm
    have fr : fre h (sb + 10 + m) 13 = true := by simp [fre, q2, kd]
    simp only [s.2.2.1.1, nn_s, l1, zn_inb hm (show 100 < 2147483648 by omega), ck_t, zn_cl (show m < 2147483648 by omega), q1, bn_d, oc_n, fr]
    have e1 : fX17_init F d (sb + 10 + m) (nw h (sb + 10 + m) 9) = some (nw h (sb + 10 + m) 9) := rfl
    rw [e1, cv_s]
    have n0 : ∀ y, y < sb + 10 → ¬ y = sb + 10 + m := fun y hy => by omega
    have s' : StP (sR (nw h (sb + 10 + m) 9) (sb + 1) m (some (sb + 10 + m))) sb := by
      refine ⟨s0, ⟨?_, ?_, ?_, ?_⟩, ⟨?_, ?_, ?_⟩, fun i hi => ?_⟩
      · rw [gL_sR, gL_nw, if_neg (n0 _ (by omega))]; exact s.2.1.1
      · rw [gL_sR, gL_nw, if_neg (n0 _ (by omega))]; exact s.2.1.2.1
      · rw [gL_sR, gL_nw, if_neg (n0 _ (by omega))]; exact s.2.1.2.2.1
      · rw [gL_sR, gL_nw, if_neg (n0 _ (by omega))]; exact s.2.1.2.2.2
      · rw [gP_sR, gP_nw, if_neg (n0 _ (by omega))]; exact s.2.2.1.1
      · rw [gP_sR, gP_nw, if_neg (n0 _ (by omega))]; exact s.2.2.1.2.1
      · rw [gP_sR, gP_nw, if_neg (n0 _ (by omega))]; exact s.2.2.1.2.2
      · by_cases ci : i = m
        · right
          rw [ci, gR_sR, if_pos ⟨rfl, rfl⟩, gL_sR, gL_nw, if_pos rfl]
          exact ⟨rfl, rfl⟩
        · rw [gR_sR, if_neg (fun q => ci q.2), gR_nw, if_neg (n0 _ (by omega)), gL_sR, gL_nw, if_neg (by omega)]
          exact s.2.2.2 i hi
    obtain ⟨h', e2, s2, m1, m2, m3, m4, m5, m6, m7⟩ := make_39 (F := F) (d := d) (m := m) s' hm (by rw [gI_sR, gI_nw, if_neg (n0 _ (by omega))]; exact c) (by rw [gR_sR, if_pos ⟨rfl, rfl⟩]) (by rw [gL_sR, gL_nw, if_pos rfl]) k x
    refine ⟨h', e2, s2, m1, ?_, m3, ⟨m4.1, m4.2.1, ?_⟩, m5, fun i hi f => ⟨?_, ?_⟩, fun y i hy => ?_⟩
    · rw [m2, gI_sR, gI_nw, if_neg (n0 _ (by omega))]
    · rw [m4.2.2, gI_sR, gI_nw, if_neg (n0 _ (by omega))]
    · rw [(m6 i hi f).1, gI_sR, gI_nw, if_neg (by omega)]
    · rw [(m6 i hi f).2, gP_sR, gP_nw, if_neg (by omega)]
    · rw [m7 y i hy, gA_sR, gA_nw, if_neg hy]
  · simp only [s.2.2.1.1, nn_s, l1, zn_inb hm (show 100 < 2147483648 by omega), ck_t, zn_cl (show m < 2147483648 by omega), q1, bn_d, oc_s]
    exact make_39 s hm c q1 q2 k x
theorem make_no (c : gI h 303 sb = zI m) (hm : 100 ≤ m) (hm2 : m < 100000) (k x : Int32) : fX3_make F d sb k x h = some (none, h) := by
  unfold fX3_make
  rw [c, if_neg (fun q => by have := (zn_lt (b := 100) (by omega) (by omega)).mp q; omega)]
end Sto
