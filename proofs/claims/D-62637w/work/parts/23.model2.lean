set_option maxRecDepth 100000
def fX6_wipe (F d : Nat) (this : Nat) (h : Hp) : Option (Int32 × Hp) :=
  bn (sI h 600 this 0) fun h1 => (
  bn (gI h1 627 this) fun v2 => (
  bn (sI h1 627 this 0) fun h3 => (
  some (v2, h3))))
theorem mw_X6_wipe : nd_MW yX6_wipe cX6_wipe 2 (some .int) 0 := ⟨q1610, q91, by decide, by decide, by decide +kernel⟩
set_option maxHeartbeats 4000000 in
theorem tX6_wipe (l : Launch) (w : Wd) (hfl : l.stackTraces = false) (F d : Nat) {this : Nat} (k_this : nd_Kd this = 5) {h : Hp} {r : Int32 × Hp} (hf : fX6_wipe F d this h = some r) : nd_C l w yX6_wipe cX6_wipe 2 (some .int) 0 0 [vr (some this)] h (.inl (some (vi r.1)), r.2) := by
  refine nd_start (as := [vr (some this)]) hfl (by decide) (Nat.le_of_ble_eq_true rfl) ?_
  unfold fX6_wipe at hf
  refine nd_eqL (L' := [(0, vr (some this))]) rfl ?_
  refine nd_aload_n (j := 0) dX6_wipe_0 rfl rfl ?_
  refine nd_iconst (v := 0) dX6_wipe_1 (by decide) ?_
  refine nd_putN (k := 0) dX6_wipe_2 k_this rfl (Nat.le_of_ble_eq_true rfl) (nd_flO q1340) rfl rfl rfl ?_
  replace hf := bnE hf
  obtain ⟨h1, e_h1, hf⟩ := hf
  refine nd_hp e_h1 ?_
  refine nd_aload_n (j := 0) dX6_wipe_5 rfl rfl ?_
  refine nd_getI (k := 27) dX6_wipe_6 k_this rfl (Nat.le_of_ble_eq_true rfl) (nd_flO q1367) rfl ?_
  replace hf := bnE hf
  obtain ⟨v2, e_v2, hf⟩ := hf
  refine nd_top e_v2 ?_
  refine nd_istore_n [(1, vi v2), (0, vr (some this))] dX6_wipe_9 rfl (Nat.le_of_ble_eq_true rfl) rfl ?_
  refine nd_aload_n (j := 1) dX6_wipe_10 rfl rfl ?_
  refine nd_iconst (v := 0) dX6_wipe_11 (by decide) ?_
  refine nd_putN (k := 27) dX6_wipe_12 k_this rfl (Nat.le_of_ble_eq_true rfl) (nd_flO q1367) rfl rfl rfl ?_
  replace hf := bnE hf
  obtain ⟨h3, e_h3, hf⟩ := hf
  refine nd_hp e_h3 ?_
  refine nd_iload_n (j := 0) dX6_wipe_15 rfl rfl ?_
  cases hf
  exact nd_iret (v := v2) dX6_wipe_16
def fX6_at_20 (F d : Nat) (this : Nat) (x1 : Int32) (s0 : Nat) (s1 : Int32) (h : Hp) : Option (Int32 × Hp) :=
  bn (sI h 600 s0 s1) fun h1 => (
  if (gI h1 600 this) ≤ 0 then
  (if 0 ≤ x1 then
  (nn (gP h1 631 this) fun a5 => (
  ck (inb x1 (nd_Ln a5)) (
  some ((gA h1 a5 (Int32.toNatClampNeg x1)), h1))))
  else
  (some ((gI h1 627 this), h1)))
  else
  (some (0, h1)))
def fX6_at (F d : Nat) (this : Nat) (p0 : Int32) (h : Hp) : Option (Int32 × Hp) :=
  ca (fX6_in F d p0 (-1) ((gI h 627 this) - 1) h) fun v2 h1 => (
  if v2 = 0 then
  (fX6_at_20 F d this p0 this 1 h1)
  else
  (fX6_at_20 F d this p0 this 0 h1))
theorem mw_X6_at : nd_MW yX6_at cX6_at 2 (some .int) 1 := ⟨q1614, q91, by decide, by decide, by decide +kernel⟩
set_option maxHeartbeats 4000000 in
theorem tX6_at_20 (l : Launch) (w : Wd) (hfl : l.stackTraces = false) (F d : Nat) (r : Int32 × Hp) (this : Nat) (x1 : Int32) (s0 : Nat) (s1 : Int32) (k_this : nd_Kd this = 5) (k_s0 : nd_Kd s0 = 5) (h : Hp) (hf : fX6_at_20 F d this x1 s0 s1 h = some r) : nd_V l w yX6_at cX6_at 2 (some .int) 1 22 (.inl (some (vi r.1)), r.2) h 20 [(0, vr (some this)), (1, vi x1)] [vi s1, vr (some s0)] := by
  unfold fX6_at_20 at hf
  refine nd_putN (k := 0) dX6_at_20 k_s0 rfl (Nat.le_of_ble_eq_true rfl) (nd_flO q1340) rfl rfl rfl ?_
  replace hf := bnE hf
  obtain ⟨h1, e_h1, hf⟩ := hf
  refine nd_hp e_h1 ?_
  refine nd_aload_n (j := 0) dX6_at_23 rfl rfl ?_
  refine nd_getI (k := 0) dX6_at_24 k_this rfl (Nat.le_of_ble_eq_true rfl) (nd_flO q1340) rfl ?_
  refine nd_if_le (tgt := 34) dX6_at_27 (by decide) (fun c2 => ?_) (fun c2 => ?_)
  · replace hf := ifp c2 hf
    refine nd_iload_n (j := 1) dX6_at_34 rfl rfl ?_
    refine nd_if_ge (tgt := 45) dX6_at_35 (by decide) (fun c3 => ?_) (fun c3 => ?_)
    · replace hf := ifp c3 hf
      refine nd_aload_n (j := 0) dX6_at_45 rfl rfl ?_
      refine nd_getP (k := 31) dX6_at_46 k_this rfl (Nat.le_of_ble_eq_true rfl) (nd_flO q1371) rfl (fun ok4 => ?_)
      replace hf := nnE hf
      obtain ⟨a5, e_a5, hf⟩ := hf
      refine nd_topr e_a5.symm ?_
      have k_a5 : nd_Kd a5 = 20 := nd_c1 (ok4 a5 e_a5)
      refine nd_iload_n (j := 1) dX6_at_49 rfl rfl ?_
      replace hf := ckE hf
      obtain ⟨c6, hf⟩ := hf
      refine nd_iald dX6_at_50 k_a5 c6 ?_
      cases hf
      exact nd_iret (v := (gA h1 a5 (Int32.toNatClampNeg x1))) dX6_at_51
    · replace hf := ifn c3 hf
      refine nd_aload_n (j := 0) dX6_at_38 rfl rfl ?_
      refine nd_getI (k := 27) dX6_at_39 k_this rfl (Nat.le_of_ble_eq_true rfl) (nd_flO q1367) rfl ?_
      refine nd_goto (tgt := 51) dX6_at_42 (by decide) ?_
      cases hf
      exact nd_iret (v := (gI h1 627 this)) dX6_at_51
  · replace hf := ifn c2 hf
    refine nd_iconst (v := 0) dX6_at_30 (by decide) ?_
    refine nd_goto (tgt := 51) dX6_at_31 (by decide) ?_
    cases hf
    exact nd_iret (v := 0) dX6_at_51
set_option maxHeartbeats 4000000 in
theorem tX6_at (l : Launch) (w : Wd) (hfl : l.stackTraces = false) (F d : Nat) {this : Nat} {p0 : Int32} (k_this : nd_Kd this = 5) {h : Hp} {r : Int32 × Hp} (hf : fX6_at F d this p0 h = some r) : nd_C l w yX6_at cX6_at 2 (some .int) 1 22 [vr (some this), vi p0] h (.inl (some (vi r.1)), r.2) := by
  refine nd_start (as := [vr (some this), vi p0]) hfl (by decide) (Nat.le_of_ble_eq_true rfl) ?_
  unfold fX6_at at hf
  refine nd_eqL (L' := [(0, vr (some this)), (1, vi p0)]) rfl ?_
  refine nd_aload_n (j := 0) dX6_at_0 rfl rfl ?_
  refine nd_iload_n (j := 1) dX6_at_1 rfl rfl ?_
  refine nd_iconst (v := (-1)) dX6_at_2 (by decide) ?_
  refine nd_aload_n (j := 0) dX6_at_3 rfl rfl ?_
  refine nd_getI (k := 27) dX6_at_4 k_this rfl (Nat.le_of_ble_eq_true rfl) (nd_flO q1367) rfl ?_
  refine nd_iconst (v := 1) dX6_at_7 (by decide) ?_
  refine nd_isub dX6_at_8 ?_
  replace hf := caE hf
  obtain ⟨v2, h1, e_h1, hf⟩ := hf
  refine nd_Si [vr (some this)] (tX6_in l w hfl F d e_h1) rfl dX6_at_9 mw_X6_in (Or.inl q1542) q1543 (by omega) (by omega) (Nat.le_of_ble_eq_true rfl) ?_
  refine nd_if_eq (tgt := 19) dX6_at_12 (by decide) (fun c3 => ?_) (fun c3 => ?_)
  · replace hf := ifp c3 hf
    refine nd_iconst (v := 1) dX6_at_19 (by decide) ?_
    exact nd_loc [0, 1] rfl (tX6_at_20 l w hfl F d r _ _ _ _ k_this k_this _ hf)
  · replace hf := ifn c3 hf
    refine nd_iconst (v := 0) dX6_at_15 (by decide) ?_
    refine nd_goto (tgt := 20) dX6_at_16 (by decide) ?_
    exact nd_loc [0, 1] rfl (tX6_at_20 l w hfl F d r _ _ _ _ k_this k_this _ hf)
def fX6_typeOf (F d : Nat) (this : Nat) (p0 : Int32) (h : Hp) : Option (Int32 × Hp) :=
  ca (fX6_in F d p0 65 90 h) fun v2 h1 => (
  if v2 = 0 then
  (some ((-1), h1))
  else
  (nn (gP h1 609 this) fun a5 => (
  ck (inb (p0 - 65) (nd_Ln a5)) (
  some ((gA h1 a5 (Int32.toNatClampNeg (p0 - 65))), h1)))))
theorem mw_X6_typeOf : nd_MW yX6_typeOf cX6_typeOf 2 (some .int) 1 := ⟨q1626, q91, by decide, by decide, by decide +kernel⟩
set_option maxHeartbeats 4000000 in
theorem tX6_typeOf (l : Launch) (w : Wd) (hfl : l.stackTraces = false) (F d : Nat) {this : Nat} {p0 : Int32} (k_this : nd_Kd this = 5) {h : Hp} {r : Int32 × Hp} (hf : fX6_typeOf F d this p0 h = some r) : nd_C l w yX6_typeOf cX6_typeOf 2 (some .int) 1 22 [vr (some this), vi p0] h (.inl (some (vi r.1)), r.2) := by
  refine nd_start (as := [vr (some this), vi p0]) hfl (by decide) (Nat.le_of_ble_eq_true rfl) ?_
  unfold fX6_typeOf at hf
  refine nd_eqL (L' := [(0, vr (some this)), (1, vi p0)]) rfl ?_
  refine nd_iload_n (j := 1) dX6_typeOf_0 rfl rfl ?_
  refine nd_bipush (v := 65) dX6_typeOf_1 (by decide) ?_
  refine nd_bipush (v := 90) dX6_typeOf_3 (by decide) ?_
  replace hf := caE hf
  obtain ⟨v2, h1, e_h1, hf⟩ := hf
  refine nd_Si [] (tX6_in l w hfl F d e_h1) rfl dX6_typeOf_5 mw_X6_in (Or.inl q1542) q1543 (by omega) (by omega) (Nat.le_of_ble_eq_true rfl) ?_
  refine nd_if_eq (tgt := 23) dX6_typeOf_8 (by decide) (fun c3 => ?_) (fun c3 => ?_)
  · replace hf := ifp c3 hf
    refine nd_iconst (v := (-1)) dX6_typeOf_23 (by decide) ?_
    cases hf
    exact nd_iret (v := (-1)) dX6_typeOf_24
  · replace hf := ifn c3 hf
    refine nd_aload_n (j := 0) dX6_typeOf_11 rfl rfl ?_
    refine nd_getP (k := 9) dX6_typeOf_12 k_this rfl (Nat.le_of_ble_eq_true rfl) (nd_flO q1349) rfl (fun ok4 => ?_)
    replace hf := nnE hf
    obtain ⟨a5, e_a5, hf⟩ := hf
    refine nd_topr e_a5.symm ?_
    have k_a5 : nd_Kd a5 = 20 := nd_c1 (ok4 a5 e_a5)
    refine nd_iload_n (j := 1) dX6_typeOf_15 rfl rfl ?_
    refine nd_bipush (v := 65) dX6_typeOf_16 (by decide) ?_
    refine nd_isub dX6_typeOf_18 ?_
    replace hf := ckE hf
    obtain ⟨c6, hf⟩ := hf
    refine nd_iald dX6_typeOf_19 k_a5 c6 ?_
    refine nd_goto (tgt := 24) dX6_typeOf_20 (by decide) ?_
    cases hf
    exact nd_iret (v := (gA h1 a5 (Int32.toNatClampNeg (p0 - 65)))) dX6_typeOf_24
def fX6_asked (F d : Nat) (this : Nat) (p0 : Int32) (p1 : Int32) (h : Hp) : Option (Int32 × Hp) :=
  if p0 = 0 then
  (some (1, h))
  else
  (if (gI h 601 this) = 0 then
  (some (2, h))
  else
  (ca (fX6_typeOf F d this p1 h) fun v4 h3 => (
  if 0 ≤ v4 then
  (some (0, h3))
  else
  (some (3, h3)))))
theorem mw_X6_asked : nd_MW yX6_asked cX6_asked 3 (some .int) 2 := ⟨q1622, q91, by decide, by decide, by decide +kernel⟩
set_option maxHeartbeats 4000000 in
theorem tX6_asked (l : Launch) (w : Wd) (hfl : l.stackTraces = false) (F d : Nat) {this : Nat} {p0 : Int32} {p1 : Int32} (k_this : nd_Kd this = 5) {h : Hp} {r : Int32 × Hp} (hf : fX6_asked F d this p0 p1 h = some r) : nd_C l w yX6_asked cX6_asked 3 (some .int) 2 43 [vr (some this), vi p0, vi p1] h (.inl (some (vi r.1)), r.2) := by
  refine nd_start (as := [vr (some this), vi p0, vi p1]) hfl (by decide) (Nat.le_of_ble_eq_true rfl) ?_
  unfold fX6_asked at hf
  refine nd_eqL (L' := [(0, vr (some this)), (1, vi p0), (2, vi p1)]) rfl ?_
  refine nd_iload_n (j := 1) dX6_asked_0 rfl rfl ?_
  refine nd_if_ne (tgt := 8) dX6_asked_1 (by decide) (fun c1 => ?_) (fun c1 => ?_)
  · replace hf := ifn c1 hf
    refine nd_aload_n (j := 0) dX6_asked_8 rfl rfl ?_
    refine nd_getI (k := 1) dX6_asked_9 k_this rfl (Nat.le_of_ble_eq_true rfl) (nd_flO q1341) rfl ?_
    refine nd_if_ne (tgt := 19) dX6_asked_12 (by decide) (fun c2 => ?_) (fun c2 => ?_)
    · replace hf := ifn c2 hf
      refine nd_aload_n (j := 0) dX6_asked_19 rfl rfl ?_
      refine nd_iload_n (j := 2) dX6_asked_20 rfl rfl ?_
      replace hf := caE hf
      obtain ⟨v4, h3, e_h3, hf⟩ := hf
      refine nd_Vi [] (tX6_typeOf l w hfl F d k_this e_h3) rfl dX6_asked_21 mw_X6_typeOf (Or.inl q1623) k_this rfl q1625 qs47 (by omega) (by omega) (Nat.le_of_ble_eq_true rfl) ?_
      refine nd_if_ge (tgt := 31) dX6_asked_24 (by decide) (fun c5 => ?_) (fun c5 => ?_)
      · replace hf := ifp c5 hf
        refine nd_iconst (v := 0) dX6_asked_31 (by decide) ?_
        cases hf
        exact nd_iret (v := 0) dX6_asked_32
      · replace hf := ifn c5 hf
        refine nd_iconst (v := 3) dX6_asked_27 (by decide) ?_
        refine nd_goto (tgt := 32) dX6_asked_28 (by decide) ?_
        cases hf
        exact nd_iret (v := 3) dX6_asked_32
    · replace hf := ifp c2 hf
      refine nd_iconst (v := 2) dX6_asked_15 (by decide) ?_
      refine nd_goto (tgt := 32) dX6_asked_16 (by decide) ?_
      cases hf
      exact nd_iret (v := 2) dX6_asked_32
  · replace hf := ifp c1 hf
    refine nd_iconst (v := 1) dX6_asked_4 (by decide) ?_
    refine nd_goto (tgt := 32) dX6_asked_5 (by decide) ?_
    cases hf
    exact nd_iret (v := 1) dX6_asked_32
def fX6_load_12 (F d : Nat) : Nat → Nat → Int32 → Int32 → Hp → Option (Hp)
  | 0, _, _, _, _ => none
  | n + 1, this, x1, x2, h =>
    if (gI h 628 this) ≤ x2 then
    (some h)
    else
    (nn (gP h 632 this) fun a3 => (
    nn (gP h 631 this) fun a5 => (
    ck (inb (x1 + x2) (nd_Ln a5)) (
    ck (inb x2 (nd_Ln a3)) (
    bn (sA h a3 (Int32.toNatClampNeg x2) (gA h a5 (Int32.toNatClampNeg (x1 + x2)))) fun h8 => (
    bn (x2 + 1) fun v9 => (
    fX6_load_12 F d n this x1 v9 h8)))))))
def fX6_load (F d : Nat) (this : Nat) (p0 : Int32) (h : Hp) : Option (Hp) :=
  bn (sI h 628 this ((gI h 627 this) - p0)) fun h1 => (
  fX6_load_12 F d F this p0 0 h1)
theorem mw_X6_load : nd_MW yX6_load cX6_load 3 none 1 := ⟨q1630, q91, by decide, by decide, by decide +kernel⟩
set_option maxHeartbeats 4000000 in
theorem tX6_load_12 (l : Launch) (w : Wd) (hfl : l.stackTraces = false) (F d : Nat) (r : Hp) : ∀ (n : Nat) (this : Nat) (x1 : Int32) (x2 : Int32) (k_this : nd_Kd this = 5) (h : Hp), fX6_load_12 F d n this x1 x2 h = some r → nd_V l w yX6_load cX6_load 3 none 0 0 (.inl none, r) h 12 [(0, vr (some this)), (1, vi x1), (2, vi x2)] [] := by
  intro n
  induction n with
  | zero => intro _ _ _ _ _ hf; cases hf
  | succ n ih =>
    intro this x1 x2 k_this h hf
    unfold fX6_load_12 at hf
    refine nd_iload_n (j := 2) dX6_load_12 rfl rfl ?_
    refine nd_aload_n (j := 0) dX6_load_13 rfl rfl ?_
    refine nd_getI (k := 28) dX6_load_14 k_this rfl (Nat.le_of_ble_eq_true rfl) (nd_flO q1368) rfl ?_
    refine nd_icmp_ge (tgt := 40) dX6_load_17 (by decide) (fun c1 => ?_) (fun c1 => ?_)
    · replace hf := ifp c1 hf
      cases hf
      exact nd_vret dX6_load_40
    · replace hf := ifn c1 hf
      refine nd_aload_n (j := 0) dX6_load_20 rfl rfl ?_
      refine nd_getP (k := 32) dX6_load_21 k_this rfl (Nat.le_of_ble_eq_true rfl) (nd_flO q1372) rfl (fun ok2 => ?_)
      replace hf := nnE hf
      obtain ⟨a3, e_a3, hf⟩ := hf
      refine nd_topr e_a3.symm ?_
      have k_a3 : nd_Kd a3 = 20 := nd_c1 (ok2 a3 e_a3)
      refine nd_iload_n (j := 2) dX6_load_24 rfl rfl ?_
      refine nd_aload_n (j := 0) dX6_load_25 rfl rfl ?_
      refine nd_getP (k := 31) dX6_load_26 k_this rfl (Nat.le_of_ble_eq_true rfl) (nd_flO q1371) rfl (fun ok4 => ?_)
      replace hf := nnE hf
      obtain ⟨a5, e_a5, hf⟩ := hf
      refine nd_topr e_a5.symm ?_
      have k_a5 : nd_Kd a5 = 20 := nd_c1 (ok4 a5 e_a5)
      refine nd_iload_n (j := 1) dX6_load_29 rfl rfl ?_
      refine nd_iload_n (j := 2) dX6_load_30 rfl rfl ?_
      refine nd_iadd dX6_load_31 ?_
      replace hf := ckE hf
      obtain ⟨c6, hf⟩ := hf
      refine nd_iald dX6_load_32 k_a5 c6 ?_
      replace hf := ckE hf
      obtain ⟨c7, hf⟩ := hf
      refine nd_iast dX6_load_33 k_a3 c7 ?_
      replace hf := bnE hf
      obtain ⟨h8, e_h8, hf⟩ := hf
      refine nd_hp e_h8 ?_
      replace hf := bnE hf
      obtain ⟨v9, e_v9, hf⟩ := hf
      refine nd_iinc (v := v9) (j := 2) [(2, vi v9), (0, vr (some this)), (1, vi x1)] dX6_load_34 rfl (by rw [e_v9]; rfl) (Nat.le_of_ble_eq_true rfl) rfl ?_
      refine nd_goto (tgt := 12) dX6_load_37 (by decide) ?_
      exact nd_loc [1, 2, 0] rfl (ih _ _ _ k_this _ hf)
set_option maxHeartbeats 4000000 in
theorem tX6_load (l : Launch) (w : Wd) (hfl : l.stackTraces = false) (F d : Nat) {this : Nat} {p0 : Int32} (k_this : nd_Kd this = 5) {h : Hp} {r : Hp} (hf : fX6_load F d this p0 h = some r) : nd_C l w yX6_load cX6_load 3 none 0 0 [vr (some this), vi p0] h (.inl none, r) := by
  refine nd_start (as := [vr (some this), vi p0]) hfl (by decide) (Nat.le_of_ble_eq_true rfl) ?_
  unfold fX6_load at hf
  refine nd_eqL (L' := [(0, vr (some this)), (1, vi p0)]) rfl ?_
  refine nd_aload_n (j := 0) dX6_load_0 rfl rfl ?_
  refine nd_aload_n (j := 0) dX6_load_1 rfl rfl ?_
  refine nd_getI (k := 27) dX6_load_2 k_this rfl (Nat.le_of_ble_eq_true rfl) (nd_flO q1367) rfl ?_
  refine nd_iload_n (j := 1) dX6_load_5 rfl rfl ?_
  refine nd_isub dX6_load_6 ?_
  refine nd_putN (k := 28) dX6_load_7 k_this rfl (Nat.le_of_ble_eq_true rfl) (nd_flO q1368) rfl rfl rfl ?_
  replace hf := bnE hf
  obtain ⟨h1, e_h1, hf⟩ := hf
  refine nd_hp e_h1 ?_
  refine nd_iconst (v := 0) dX6_load_10 (by decide) ?_
  refine nd_istore_n [(2, vi 0), (0, vr (some this)), (1, vi p0)] dX6_load_11 rfl (Nat.le_of_ble_eq_true rfl) rfl ?_
  exact nd_loc [1, 2, 0] rfl (tX6_load_12 l w hfl F d r F _ _ _ k_this _ hf)
def fX6_bound (F d : Nat) (this : Nat) (h : Hp) : Option (Int32 × Hp) :=
  if (gI h 648 this) = 0 then
  (some ((gI h 628 this), h))
  else
  (nn (gP h 651 this) fun a3 => (
  ck (inb ((gI h 648 this) - 1) (nd_Ln a3)) (
  some ((gA h a3 (Int32.toNatClampNeg ((gI h 648 this) - 1))), h))))
theorem mw_X6_bound : nd_MW yX6_bound cX6_bound 1 (some .int) 0 := ⟨q1646, q91, by decide, by decide, by decide +kernel⟩
set_option maxHeartbeats 4000000 in
theorem tX6_bound (l : Launch) (w : Wd) (hfl : l.stackTraces = false) (F d : Nat) {this : Nat} (k_this : nd_Kd this = 5) {h : Hp} {r : Int32 × Hp} (hf : fX6_bound F d this h = some r) : nd_C l w yX6_bound cX6_bound 1 (some .int) 0 0 [vr (some this)] h (.inl (some (vi r.1)), r.2) := by
  refine nd_start (as := [vr (some this)]) hfl (by decide) (Nat.le_of_ble_eq_true rfl) ?_
  unfold fX6_bound at hf
  refine nd_eqL (L' := [(0, vr (some this))]) rfl ?_
  refine nd_aload_n (j := 0) dX6_bound_0 rfl rfl ?_
  refine nd_getI (k := 48) dX6_bound_1 k_this rfl (Nat.le_of_ble_eq_true rfl) (nd_flO q1388) rfl ?_
  refine nd_if_ne (tgt := 14) dX6_bound_4 (by decide) (fun c1 => ?_) (fun c1 => ?_)
  · replace hf := ifn c1 hf
    refine nd_aload_n (j := 0) dX6_bound_14 rfl rfl ?_
    refine nd_getP (k := 51) dX6_bound_15 k_this rfl (Nat.le_of_ble_eq_true rfl) (nd_flO q1391) rfl (fun ok2 => ?_)
    replace hf := nnE hf
    obtain ⟨a3, e_a3, hf⟩ := hf
    refine nd_topr e_a3.symm ?_
    have k_a3 : nd_Kd a3 = 20 := nd_c1 (ok2 a3 e_a3)
    refine nd_aload_n (j := 0) dX6_bound_18 rfl rfl ?_
    refine nd_getI (k := 48) dX6_bound_19 k_this rfl (Nat.le_of_ble_eq_true rfl) (nd_flO q1388) rfl ?_
    refine nd_iconst (v := 1) dX6_bound_22 (by decide) ?_
    refine nd_isub dX6_bound_23 ?_
    replace hf := ckE hf
    obtain ⟨c4, hf⟩ := hf
    refine nd_iald dX6_bound_24 k_a3 c4 ?_
    cases hf
    exact nd_iret (v := (gA h a3 (Int32.toNatClampNeg ((gI h 648 this) - 1)))) dX6_bound_25
  · replace hf := ifp c1 hf
    refine nd_aload_n (j := 0) dX6_bound_7 rfl rfl ?_
    refine nd_getI (k := 28) dX6_bound_8 k_this rfl (Nat.le_of_ble_eq_true rfl) (nd_flO q1368) rfl ?_
    refine nd_goto (tgt := 25) dX6_bound_11 (by decide) ?_
    cases hf
    exact nd_iret (v := (gI h 628 this)) dX6_bound_25
def fX6_next_16 (F d : Nat) (this : Nat) (h : Hp) : Option (Int32 × Hp) :=
  bn (sI h 647 this ((gI h 647 this) + 1)) fun h1 => (
  if (gI h1 649 this) = 0 then
  (some (0, h1))
  else
  (nn (gP h1 632 this) fun a4 => (
  ck (inb ((gI h1 647 this) - 1) (nd_Ln a4)) (
  some ((gA h1 a4 (Int32.toNatClampNeg ((gI h1 647 this) - 1))), h1)))))
def fX6_next (F d : Nat) (this : Nat) (h : Hp) : Option (Int32 × Hp) :=
  ca (fX6_bound F d this h) fun v2 h1 => (
  if (gI h 647 this) < v2 then
  (fX6_next_16 F d this h1)
  else
  (bn (sI h1 649 this 0) fun h4 => (
  fX6_next_16 F d this h4)))
theorem mw_X6_next : nd_MW yX6_next cX6_next 1 (some .int) 0 := ⟨q1642, q91, by decide, by decide, by decide +kernel⟩
set_option maxHeartbeats 4000000 in
theorem tX6_next_16 (l : Launch) (w : Wd) (hfl : l.stackTraces = false) (F d : Nat) (r : Int32 × Hp) (this : Nat) (k_this : nd_Kd this = 5) (h : Hp) (hf : fX6_next_16 F d this h = some r) : nd_V l w yX6_next cX6_next 1 (some .int) 1 20 (.inl (some (vi r.1)), r.2) h 16 [(0, vr (some this))] [] := by
  unfold fX6_next_16 at hf
  refine nd_aload_n (j := 0) dX6_next_16 rfl rfl ?_
  refine nd_dup dX6_next_17 rfl ?_
  refine nd_getI (k := 47) dX6_next_18 k_this rfl (Nat.le_of_ble_eq_true rfl) (nd_flO q1387) rfl ?_
  refine nd_iconst (v := 1) dX6_next_21 (by decide) ?_
  refine nd_iadd dX6_next_22 ?_
  refine nd_putN (k := 47) dX6_next_23 k_this rfl (Nat.le_of_ble_eq_true rfl) (nd_flO q1387) rfl rfl rfl ?_
  replace hf := bnE hf
  obtain ⟨h1, e_h1, hf⟩ := hf
  refine nd_hp e_h1 ?_
  refine nd_aload_n (j := 0) dX6_next_26 rfl rfl ?_
  refine nd_getI (k := 49) dX6_next_27 k_this rfl (Nat.le_of_ble_eq_true rfl) (nd_flO q1389) rfl ?_
  refine nd_if_eq (tgt := 47) dX6_next_30 (by decide) (fun c2 => ?_) (fun c2 => ?_)
  · replace hf := ifp c2 hf
    refine nd_iconst (v := 0) dX6_next_47 (by decide) ?_
    cases hf
    exact nd_iret (v := 0) dX6_next_48
  · replace hf := ifn c2 hf
    refine nd_aload_n (j := 0) dX6_next_33 rfl rfl ?_
    refine nd_getP (k := 32) dX6_next_34 k_this rfl (Nat.le_of_ble_eq_true rfl) (nd_flO q1372) rfl (fun ok3 => ?_)
    replace hf := nnE hf
    obtain ⟨a4, e_a4, hf⟩ := hf
    refine nd_topr e_a4.symm ?_
    have k_a4 : nd_Kd a4 = 20 := nd_c1 (ok3 a4 e_a4)
    refine nd_aload_n (j := 0) dX6_next_37 rfl rfl ?_
    refine nd_getI (k := 47) dX6_next_38 k_this rfl (Nat.le_of_ble_eq_true rfl) (nd_flO q1387) rfl ?_
    refine nd_iconst (v := 1) dX6_next_41 (by decide) ?_
    refine nd_isub dX6_next_42 ?_
    replace hf := ckE hf
    obtain ⟨c5, hf⟩ := hf
    refine nd_iald dX6_next_43 k_a4 c5 ?_
    refine nd_goto (tgt := 48) dX6_next_44 (by decide) ?_
    cases hf
    exact nd_iret (v := (gA h1 a4 (Int32.toNatClampNeg ((gI h1 647 this) - 1)))) dX6_next_48
set_option maxHeartbeats 4000000 in
theorem tX6_next (l : Launch) (w : Wd) (hfl : l.stackTraces = false) (F d : Nat) {this : Nat} (k_this : nd_Kd this = 5) {h : Hp} {r : Int32 × Hp} (hf : fX6_next F d this h = some r) : nd_C l w yX6_next cX6_next 1 (some .int) 1 20 [vr (some this)] h (.inl (some (vi r.1)), r.2) := by
  refine nd_start (as := [vr (some this)]) hfl (by decide) (Nat.le_of_ble_eq_true rfl) ?_
  unfold fX6_next at hf
  refine nd_eqL (L' := [(0, vr (some this))]) rfl ?_
  refine nd_aload_n (j := 0) dX6_next_0 rfl rfl ?_
  refine nd_getI (k := 47) dX6_next_1 k_this rfl (Nat.le_of_ble_eq_true rfl) (nd_flO q1387) rfl ?_
  refine nd_aload_n (j := 0) dX6_next_4 rfl rfl ?_
  replace hf := caE hf
  obtain ⟨v2, h1, e_h1, hf⟩ := hf
  refine nd_Vi [vi (gI h 647 this)] (tX6_bound l w hfl F d k_this e_h1) rfl dX6_next_5 mw_X6_bound (Or.inl q1643) k_this rfl q1645 qs52 (by omega) (by omega) (Nat.le_of_ble_eq_true rfl) ?_
  refine nd_icmp_lt (tgt := 16) dX6_next_8 (by decide) (fun c3 => ?_) (fun c3 => ?_)
  · replace hf := ifp c3 hf
    exact nd_loc [0] rfl (tX6_next_16 l w hfl F d r _ k_this _ hf)
  · replace hf := ifn c3 hf
    refine nd_aload_n (j := 0) dX6_next_11 rfl rfl ?_
    refine nd_iconst (v := 0) dX6_next_12 (by decide) ?_
    refine nd_putZ (k := 49) (by decide) dX6_next_13 k_this rfl (Nat.le_of_ble_eq_true rfl) (nd_flO q1389) rfl rfl rfl ?_
    replace hf := bnE hf
    obtain ⟨h4, e_h4, hf⟩ := hf
    refine nd_hp e_h4 ?_
    exact nd_loc [0] rfl (tX6_next_16 l w hfl F d r _ k_this _ hf)
def fX6_length_91 (F d : Nat) (this : Nat) (x2 : Int32) (h : Hp) : Option (Int32 × Hp) :=
  if (gI h 649 this) = 0 then
  (some (0, h))
  else
  (some (x2, h))
def fX6_length_73 (F d : Nat) (this : Nat) (x2 : Int32) (h : Hp) : Option (Int32 × Hp) :=
  ca (fX6_bound F d this h) fun v2 h1 => (
  if ((gI h 647 this) + x2) ≤ v2 then
  (fX6_length_91 F d this x2 h1)
  else
  (bn (sI h1 649 this 0) fun h4 => (
  fX6_length_91 F d this x2 h4)))
def fX6_length_37 (F d : Nat) (this : Nat) (x2 : Int32) (h : Hp) : Option (Int32 × Hp) :=
  if x2 = 129 then
  (ca (fX6_next F d this h) fun v9 h8 => (
  fX6_length_73 F d this v9 h8))
  else
  (if x2 = 130 then
  (ca (fX6_next F d this h) fun v4 h3 => (
  ca (fX6_next F d this h3) fun v6 h5 => (
  bn ((256 * v4) + v6) fun v7 => (
  fX6_length_73 F d this v7 h5))))
  else
  (fX6_length_73 F d this x2 h))
def fX6_length_32 (F d : Nat) (this : Nat) (x2 : Int32) (h : Hp) : Option (Int32 × Hp) :=
  bn (sI h 649 this 0) fun h1 => (
  fX6_length_37 F d this x2 h1)
def fX6_length_18 (F d : Nat) (this : Nat) (x2 : Int32) (h : Hp) : Option (Int32 × Hp) :=
  if 130 < x2 then
  (fX6_length_32 F d this x2 h)
  else
  (if x2 = 128 then
  (fX6_length_32 F d this x2 h)
  else
  (fX6_length_37 F d this x2 h))
def fX6_length (F d : Nat) (this : Nat) (p0 : Int32) (h : Hp) : Option (Int32 × Hp) :=
  ca (fX6_next F d this h) fun v2 h1 => (
  if v2 = 128 then
  (if p0 = 0 then
  (fX6_length_18 F d this v2 h1)
  else
  (some ((-1), h1)))
  else
  (fX6_length_18 F d this v2 h1))
theorem mw_X6_length : nd_MW yX6_length cX6_length 3 (some .int) 1 := ⟨q1654, q91, by decide, by decide, by decide +kernel⟩
set_option maxHeartbeats 4000000 in
theorem tX6_length_91 (l : Launch) (w : Wd) (hfl : l.stackTraces = false) (F d : Nat) (r : Int32 × Hp) (this : Nat) (x2 : Int32) (k_this : nd_Kd this = 5) (h : Hp) (hf : fX6_length_91 F d this x2 h = some r) : nd_V l w yX6_length cX6_length 3 (some .int) 2 40 (.inl (some (vi r.1)), r.2) h 91 [(0, vr (some this)), (2, vi x2)] [] := by
  unfold fX6_length_91 at hf
  refine nd_aload_n (j := 0) dX6_length_91 rfl rfl ?_
  refine nd_getI (k := 49) dX6_length_92 k_this rfl (Nat.le_of_ble_eq_true rfl) (nd_flO q1389) rfl ?_
  refine nd_if_eq (tgt := 102) dX6_length_95 (by decide) (fun c1 => ?_) (fun c1 => ?_)
  · replace hf := ifp c1 hf
    refine nd_iconst (v := 0) dX6_length_102 (by decide) ?_
    cases hf
    exact nd_iret (v := 0) dX6_length_103
  · replace hf := ifn c1 hf
    refine nd_iload_n (j := 1) dX6_length_98 rfl rfl ?_
    refine nd_goto (tgt := 103) dX6_length_99 (by decide) ?_
    cases hf
    exact nd_iret (v := x2) dX6_length_103
set_option maxHeartbeats 4000000 in
theorem tX6_length_73 (l : Launch) (w : Wd) (hfl : l.stackTraces = false) (F d : Nat) (r : Int32 × Hp) (this : Nat) (x2 : Int32) (k_this : nd_Kd this = 5) (h : Hp) (hf : fX6_length_73 F d this x2 h = some r) : nd_V l w yX6_length cX6_length 3 (some .int) 2 40 (.inl (some (vi r.1)), r.2) h 73 [(0, vr (some this)), (2, vi x2)] [] := by
  unfold fX6_length_73 at hf
  refine nd_aload_n (j := 0) dX6_length_73 rfl rfl ?_
  refine nd_getI (k := 47) dX6_length_74 k_this rfl (Nat.le_of_ble_eq_true rfl) (nd_flO q1387) rfl ?_
  refine nd_iload_n (j := 1) dX6_length_77 rfl rfl ?_
  refine nd_iadd dX6_length_78 ?_
  refine nd_aload_n (j := 0) dX6_length_79 rfl rfl ?_
  replace hf := caE hf
  obtain ⟨v2, h1, e_h1, hf⟩ := hf
  refine nd_Vi [vi ((gI h 647 this) + x2)] (tX6_bound l w hfl F d k_this e_h1) rfl dX6_length_80 mw_X6_bound (Or.inl q1643) k_this rfl q1645 qs52 (by omega) (by omega) (Nat.le_of_ble_eq_true rfl) ?_
  refine nd_icmp_le (tgt := 91) dX6_length_83 (by decide) (fun c3 => ?_) (fun c3 => ?_)
  · replace hf := ifp c3 hf
    exact nd_loc [0, 1] rfl (tX6_length_91 l w hfl F d r _ _ k_this _ hf)
  · replace hf := ifn c3 hf
    refine nd_aload_n (j := 0) dX6_length_86 rfl rfl ?_
    refine nd_iconst (v := 0) dX6_length_87 (by decide) ?_
    refine nd_putZ (k := 49) (by decide) dX6_length_88 k_this rfl (Nat.le_of_ble_eq_true rfl) (nd_flO q1389) rfl rfl rfl ?_
    replace hf := bnE hf
    obtain ⟨h4, e_h4, hf⟩ := hf
    refine nd_hp e_h4 ?_
    exact nd_loc [0, 1] rfl (tX6_length_91 l w hfl F d r _ _ k_this _ hf)
set_option maxHeartbeats 4000000 in
theorem tX6_length_37 (l : Launch) (w : Wd) (hfl : l.stackTraces = false) (F d : Nat) (r : Int32 × Hp) (this : Nat) (x2 : Int32) (k_this : nd_Kd this = 5) (h : Hp) (hf : fX6_length_37 F d this x2 h = some r) : nd_V l w yX6_length cX6_length 3 (some .int) 2 40 (.inl (some (vi r.1)), r.2) h 37 [(0, vr (some this)), (2, vi x2)] [] := by
  unfold fX6_length_37 at hf
  refine nd_iload_n (j := 1) dX6_length_37 rfl rfl ?_
  refine nd_sipush (v := 129) dX6_length_38 (by decide) ?_
  refine nd_icmp_ne (tgt := 52) dX6_length_41 (by decide) (fun c1 => ?_) (fun c1 => ?_)
  · replace hf := ifn c1 hf
    refine nd_iload_n (j := 1) dX6_length_52 rfl rfl ?_
    refine nd_sipush (v := 130) dX6_length_53 (by decide) ?_
    refine nd_icmp_ne (tgt := 73) dX6_length_56 (by decide) (fun c2 => ?_) (fun c2 => ?_)
    · replace hf := ifn c2 hf
      exact nd_loc [0, 1] rfl (tX6_length_73 l w hfl F d r _ _ k_this _ hf)
    · replace hf := ifp c2 hf
      refine nd_sipush (v := 256) dX6_length_59 (by decide) ?_
      refine nd_aload_n (j := 0) dX6_length_62 rfl rfl ?_
      replace hf := caE hf
      obtain ⟨v4, h3, e_h3, hf⟩ := hf
      refine nd_Vi [vi 256] (tX6_next l w hfl F d k_this e_h3) rfl dX6_length_63 mw_X6_next (Or.inl q1639) k_this rfl q1641 qs51 (by omega) (by omega) (Nat.le_of_ble_eq_true rfl) ?_
      refine nd_imul dX6_length_66 ?_
      refine nd_aload_n (j := 0) dX6_length_67 rfl rfl ?_
      replace hf := caE hf
      obtain ⟨v6, h5, e_h5, hf⟩ := hf
      refine nd_Vi [vi (256 * v4)] (tX6_next l w hfl F d k_this e_h5) rfl dX6_length_68 mw_X6_next (Or.inl q1639) k_this rfl q1641 qs51 (by omega) (by omega) (Nat.le_of_ble_eq_true rfl) ?_
      refine nd_iadd dX6_length_71 ?_
      replace hf := bnE hf
      obtain ⟨v7, e_v7, hf⟩ := hf
      refine nd_top e_v7 ?_
      refine nd_istore_n [(2, vi v7), (0, vr (some this))] dX6_length_72 rfl (Nat.le_of_ble_eq_true rfl) rfl ?_
      exact nd_loc [1, 0] rfl (tX6_length_73 l w hfl F d r _ _ k_this _ hf)
  · replace hf := ifp c1 hf
    refine nd_aload_n (j := 0) dX6_length_44 rfl rfl ?_
    replace hf := caE hf
    obtain ⟨v9, h8, e_h8, hf⟩ := hf
    refine nd_Vi [] (tX6_next l w hfl F d k_this e_h8) rfl dX6_length_45 mw_X6_next (Or.inl q1639) k_this rfl q1641 qs51 (by omega) (by omega) (Nat.le_of_ble_eq_true rfl) ?_
    refine nd_istore_n [(2, vi v9), (0, vr (some this))] dX6_length_48 rfl (Nat.le_of_ble_eq_true rfl) rfl ?_
    refine nd_goto (tgt := 73) dX6_length_49 (by decide) ?_
    exact nd_loc [1, 0] rfl (tX6_length_73 l w hfl F d r _ _ k_this _ hf)
set_option maxHeartbeats 4000000 in
theorem tX6_length_32 (l : Launch) (w : Wd) (hfl : l.stackTraces = false) (F d : Nat) (r : Int32 × Hp) (this : Nat) (x2 : Int32) (k_this : nd_Kd this = 5) (h : Hp) (hf : fX6_length_32 F d this x2 h = some r) : nd_V l w yX6_length cX6_length 3 (some .int) 2 40 (.inl (some (vi r.1)), r.2) h 32 [(0, vr (some this)), (2, vi x2)] [] := by
  unfold fX6_length_32 at hf
  refine nd_aload_n (j := 0) dX6_length_32 rfl rfl ?_
  refine nd_iconst (v := 0) dX6_length_33 (by decide) ?_
  refine nd_putZ (k := 49) (by decide) dX6_length_34 k_this rfl (Nat.le_of_ble_eq_true rfl) (nd_flO q1389) rfl rfl rfl ?_
  replace hf := bnE hf
  obtain ⟨h1, e_h1, hf⟩ := hf
  refine nd_hp e_h1 ?_
  exact nd_loc [0, 1] rfl (tX6_length_37 l w hfl F d r _ _ k_this _ hf)
set_option maxHeartbeats 4000000 in
theorem tX6_length_18 (l : Launch) (w : Wd) (hfl : l.stackTraces = false) (F d : Nat) (r : Int32 × Hp) (this : Nat) (x2 : Int32) (k_this : nd_Kd this = 5) (h : Hp) (hf : fX6_length_18 F d this x2 h = some r) : nd_V l w yX6_length cX6_length 3 (some .int) 2 40 (.inl (some (vi r.1)), r.2) h 18 [(0, vr (some this)), (2, vi x2)] [] := by
  unfold fX6_length_18 at hf
  refine nd_iload_n (j := 1) dX6_length_18 rfl rfl ?_
  refine nd_sipush (v := 130) dX6_length_19 (by decide) ?_
  refine nd_icmp_gt (tgt := 32) dX6_length_22 (by decide) (fun c1 => ?_) (fun c1 => ?_)
  · replace hf := ifp c1 hf
    exact nd_loc [0, 1] rfl (tX6_length_32 l w hfl F d r _ _ k_this _ hf)
  · replace hf := ifn c1 hf
    refine nd_iload_n (j := 1) dX6_length_25 rfl rfl ?_
    refine nd_sipush (v := 128) dX6_length_26 (by decide) ?_
    refine nd_icmp_ne (tgt := 37) dX6_length_29 (by decide) (fun c2 => ?_) (fun c2 => ?_)
    · replace hf := ifn c2 hf
      exact nd_loc [0, 1] rfl (tX6_length_37 l w hfl F d r _ _ k_this _ hf)
    · replace hf := ifp c2 hf
      exact nd_loc [0, 1] rfl (tX6_length_32 l w hfl F d r _ _ k_this _ hf)
set_option maxHeartbeats 4000000 in
theorem tX6_length (l : Launch) (w : Wd) (hfl : l.stackTraces = false) (F d : Nat) {this : Nat} {p0 : Int32} (k_this : nd_Kd this = 5) {h : Hp} {r : Int32 × Hp} (hf : fX6_length F d this p0 h = some r) : nd_C l w yX6_length cX6_length 3 (some .int) 2 40 [vr (some this), vi p0] h (.inl (some (vi r.1)), r.2) := by
  refine nd_start (as := [vr (some this), vi p0]) hfl (by decide) (Nat.le_of_ble_eq_true rfl) ?_
  unfold fX6_length at hf
  refine nd_eqL (L' := [(0, vr (some this)), (1, vi p0)]) rfl ?_
  refine nd_aload_n (j := 0) dX6_length_0 rfl rfl ?_
  replace hf := caE hf
  obtain ⟨v2, h1, e_h1, hf⟩ := hf
  refine nd_Vi [] (tX6_next l w hfl F d k_this e_h1) rfl dX6_length_1 mw_X6_next (Or.inl q1639) k_this rfl q1641 qs51 (by omega) (by omega) (Nat.le_of_ble_eq_true rfl) ?_
  refine nd_istore_n [(2, vi v2), (0, vr (some this)), (1, vi p0)] dX6_length_4 rfl (Nat.le_of_ble_eq_true rfl) rfl ?_
  refine nd_iload_n (j := 0) dX6_length_5 rfl rfl ?_
  refine nd_sipush (v := 128) dX6_length_6 (by decide) ?_
  refine nd_icmp_ne (tgt := 18) dX6_length_9 (by decide) (fun c3 => ?_) (fun c3 => ?_)
  · replace hf := ifn c3 hf
    exact nd_loc [1, 0] rfl (tX6_length_18 l w hfl F d r _ _ k_this _ hf)
  · replace hf := ifp c3 hf
    refine nd_iload_n (j := 2) dX6_length_12 rfl rfl ?_
    refine nd_if_eq (tgt := 18) dX6_length_13 (by decide) (fun c4 => ?_) (fun c4 => ?_)
    · replace hf := ifp c4 hf
      exact nd_loc [1, 0] rfl (tX6_length_18 l w hfl F d r _ _ k_this _ hf)
    · replace hf := ifn c4 hf
      refine nd_iconst (v := (-1)) dX6_length_16 (by decide) ?_
      cases hf
      exact nd_iret (v := (-1)) dX6_length_17
def fX6_frame (F d : Nat) (this : Nat) (p0 : Int32) (p1 : Int32) (p2 : Int32) (h : Hp) : Option (Hp) :=
  nn (gP h 650 this) fun a2 => (
  ck (inb (gI h 648 this) (nd_Ln a2)) (
  bn (sA h a2 (Int32.toNatClampNeg (gI h 648 this)) p0) fun h4 => (
  nn (gP h4 651 this) fun a6 => (
  ck (inb (gI h4 648 this) (nd_Ln a6)) (
  bn (sA h4 a6 (Int32.toNatClampNeg (gI h4 648 this)) p1) fun h8 => (
  nn (gP h8 654 this) fun a10 => (
  ck (inb (gI h8 648 this) (nd_Ln a10)) (
  ck (isB p2) (
  bn (sA h8 a10 (Int32.toNatClampNeg (gI h8 648 this)) p2) fun h12 => (
  nn (gP h12 652 this) fun a15 => (
  ck (inb (gI h12 648 this) (nd_Ln a15)) (
  bn (sA h12 a15 (Int32.toNatClampNeg (gI h12 648 this)) 0) fun h17 => (
  nn (gP h17 653 this) fun a19 => (
  ck (inb (gI h17 648 this) (nd_Ln a19)) (
  bn (sA h17 a19 (Int32.toNatClampNeg (gI h17 648 this)) 0) fun h21 => (
  bn (sI h21 648 this ((gI h21 648 this) + 1)) fun h22 => (
  some h22)))))))))))))))))
theorem mw_X6_frame : nd_MW yX6_frame cX6_frame 4 none 3 := ⟨q1658, q91, by decide, by decide, by decide +kernel⟩
set_option maxHeartbeats 4000000 in
theorem tX6_frame (l : Launch) (w : Wd) (hfl : l.stackTraces = false) (F d : Nat) {this : Nat} {p0 : Int32} {p1 : Int32} {p2 : Int32} (k_this : nd_Kd this = 5) {h : Hp} {r : Hp} (hf : fX6_frame F d this p0 p1 p2 h = some r) : nd_C l w yX6_frame cX6_frame 4 none 0 0 [vr (some this), vi p0, vi p1, vi p2] h (.inl none, r) := by
  refine nd_start (as := [vr (some this), vi p0, vi p1, vi p2]) hfl (by decide) (Nat.le_of_ble_eq_true rfl) ?_
  unfold fX6_frame at hf
  refine nd_eqL (L' := [(0, vr (some this)), (1, vi p0), (2, vi p1), (3, vi p2)]) rfl ?_
  refine nd_aload_n (j := 0) dX6_frame_0 rfl rfl ?_
  refine nd_getP (k := 50) dX6_frame_1 k_this rfl (Nat.le_of_ble_eq_true rfl) (nd_flO q1390) rfl (fun ok1 => ?_)
  replace hf := nnE hf
  obtain ⟨a2, e_a2, hf⟩ := hf
  refine nd_topr e_a2.symm ?_
  have k_a2 : nd_Kd a2 = 20 := nd_c1 (ok1 a2 e_a2)
  refine nd_aload_n (j := 0) dX6_frame_4 rfl rfl ?_
  refine nd_getI (k := 48) dX6_frame_5 k_this rfl (Nat.le_of_ble_eq_true rfl) (nd_flO q1388) rfl ?_
  refine nd_iload_n (j := 1) dX6_frame_8 rfl rfl ?_
  replace hf := ckE hf
  obtain ⟨c3, hf⟩ := hf
  refine nd_iast dX6_frame_9 k_a2 c3 ?_
  replace hf := bnE hf
  obtain ⟨h4, e_h4, hf⟩ := hf
  refine nd_hp e_h4 ?_
  refine nd_aload_n (j := 0) dX6_frame_10 rfl rfl ?_
  refine nd_getP (k := 51) dX6_frame_11 k_this rfl (Nat.le_of_ble_eq_true rfl) (nd_flO q1391) rfl (fun ok5 => ?_)
  replace hf := nnE hf
  obtain ⟨a6, e_a6, hf⟩ := hf
  refine nd_topr e_a6.symm ?_
  have k_a6 : nd_Kd a6 = 20 := nd_c1 (ok5 a6 e_a6)
  refine nd_aload_n (j := 0) dX6_frame_14 rfl rfl ?_
  refine nd_getI (k := 48) dX6_frame_15 k_this rfl (Nat.le_of_ble_eq_true rfl) (nd_flO q1388) rfl ?_
  refine nd_iload_n (j := 2) dX6_frame_18 rfl rfl ?_
  replace hf := ckE hf
  obtain ⟨c7, hf⟩ := hf
  refine nd_iast dX6_frame_19 k_a6 c7 ?_
  replace hf := bnE hf
  obtain ⟨h8, e_h8, hf⟩ := hf
  refine nd_hp e_h8 ?_
  refine nd_aload_n (j := 0) dX6_frame_20 rfl rfl ?_
  refine nd_getP (k := 54) dX6_frame_21 k_this rfl (Nat.le_of_ble_eq_true rfl) (nd_flO q1394) rfl (fun ok9 => ?_)
  replace hf := nnE hf
  obtain ⟨a10, e_a10, hf⟩ := hf
  refine nd_topr e_a10.symm ?_
  have k_a10 : nd_Kd a10 = 22 := nd_c1 (ok9 a10 e_a10)
  refine nd_aload_n (j := 0) dX6_frame_24 rfl rfl ?_
  refine nd_getI (k := 48) dX6_frame_25 k_this rfl (Nat.le_of_ble_eq_true rfl) (nd_flO q1388) rfl ?_
  refine nd_iload_n (j := 3) dX6_frame_28 rfl rfl ?_
  replace hf := ckE hf
  obtain ⟨c11, hf⟩ := hf
  replace hf := ckE hf
  obtain ⟨c13, hf⟩ := hf
  refine nd_zast dX6_frame_29 k_a10 c11 c13 ?_
  replace hf := bnE hf
  obtain ⟨h12, e_h12, hf⟩ := hf
  refine nd_hp e_h12 ?_
  refine nd_aload_n (j := 0) dX6_frame_30 rfl rfl ?_
  refine nd_getP (k := 52) dX6_frame_31 k_this rfl (Nat.le_of_ble_eq_true rfl) (nd_flO q1392) rfl (fun ok14 => ?_)
  replace hf := nnE hf
  obtain ⟨a15, e_a15, hf⟩ := hf
  refine nd_topr e_a15.symm ?_
  have k_a15 : nd_Kd a15 = 20 := nd_c1 (ok14 a15 e_a15)
  refine nd_aload_n (j := 0) dX6_frame_34 rfl rfl ?_
  refine nd_getI (k := 48) dX6_frame_35 k_this rfl (Nat.le_of_ble_eq_true rfl) (nd_flO q1388) rfl ?_
  refine nd_iconst (v := 0) dX6_frame_38 (by decide) ?_
  replace hf := ckE hf
  obtain ⟨c16, hf⟩ := hf
  refine nd_iast dX6_frame_39 k_a15 c16 ?_
  replace hf := bnE hf
  obtain ⟨h17, e_h17, hf⟩ := hf
  refine nd_hp e_h17 ?_
  refine nd_aload_n (j := 0) dX6_frame_40 rfl rfl ?_
  refine nd_getP (k := 53) dX6_frame_41 k_this rfl (Nat.le_of_ble_eq_true rfl) (nd_flO q1393) rfl (fun ok18 => ?_)
  replace hf := nnE hf
  obtain ⟨a19, e_a19, hf⟩ := hf
  refine nd_topr e_a19.symm ?_
  have k_a19 : nd_Kd a19 = 20 := nd_c1 (ok18 a19 e_a19)
  refine nd_aload_n (j := 0) dX6_frame_44 rfl rfl ?_
  refine nd_getI (k := 48) dX6_frame_45 k_this rfl (Nat.le_of_ble_eq_true rfl) (nd_flO q1388) rfl ?_
  refine nd_iconst (v := 0) dX6_frame_48 (by decide) ?_
  replace hf := ckE hf
  obtain ⟨c20, hf⟩ := hf
  refine nd_iast dX6_frame_49 k_a19 c20 ?_
  replace hf := bnE hf
  obtain ⟨h21, e_h21, hf⟩ := hf
  refine nd_hp e_h21 ?_
  refine nd_aload_n (j := 0) dX6_frame_50 rfl rfl ?_
  refine nd_dup dX6_frame_51 rfl ?_
  refine nd_getI (k := 48) dX6_frame_52 k_this rfl (Nat.le_of_ble_eq_true rfl) (nd_flO q1388) rfl ?_
  refine nd_iconst (v := 1) dX6_frame_55 (by decide) ?_
  refine nd_iadd dX6_frame_56 ?_
  refine nd_putN (k := 48) dX6_frame_57 k_this rfl (Nat.le_of_ble_eq_true rfl) (nd_flO q1388) rfl rfl rfl ?_
  replace hf := bnE hf
  obtain ⟨h22, e_h22, hf⟩ := hf
  refine nd_hp e_h22 ?_
  cases hf
  exact nd_vret dX6_frame_60
def fX6_enter_34 (F d : Nat) (s0 : Nat) (s1 : Int32) (s2 : Int32) (s3 : Int32) (h : Hp) : Option (Hp) :=
  cv (fX6_frame F d s0 s1 s2 s3 h) fun h1 => (
  some h1)
def fX6_enter_25 (F d : Nat) (x2 : Int32) (s0 : Nat) (s1 : Int32) (s2 : Int32) (h : Hp) : Option (Hp) :=
  if 0 ≤ x2 then
  (fX6_enter_34 F d s0 s1 s2 0 h)
  else
  (fX6_enter_34 F d s0 s1 s2 1 h)
def fX6_enter (F d : Nat) (this : Nat) (p0 : Int32) (h : Hp) : Option (Hp) :=
  ca (fX6_length F d this 1 h) fun v2 h1 => (
  if 0 ≤ v2 then
  (fX6_enter_25 F d v2 this p0 ((gI h1 647 this) + v2) h1)
  else
  (ca (fX6_bound F d this h1) fun v5 h4 => (
  fX6_enter_25 F d v2 this p0 v5 h4)))
theorem mw_X6_enter : nd_MW yX6_enter cX6_enter 3 none 1 := ⟨q1650, q91, by decide, by decide, by decide +kernel⟩
set_option maxHeartbeats 4000000 in
theorem tX6_enter_34 (l : Launch) (w : Wd) (hfl : l.stackTraces = false) (F d : Nat) (r : Hp) (s0 : Nat) (s1 : Int32) (s2 : Int32) (s3 : Int32) (k_s0 : nd_Kd s0 = 5) (h : Hp) (hf : fX6_enter_34 F d s0 s1 s2 s3 h = some r) : nd_V l w yX6_enter cX6_enter 3 none 3 62 (.inl none, r) h 34 [] [vi s3, vi s2, vi s1, vr (some s0)] := by
  unfold fX6_enter_34 at hf
  replace hf := cvE hf
  obtain ⟨h1, e_h1, hf⟩ := hf
  refine nd_Vv [] (tX6_frame l w hfl F d k_s0 e_h1) rfl dX6_enter_34 mw_X6_frame (Or.inl q1655) k_s0 rfl q1657 qs55 (by omega) (by omega) (Nat.le_of_ble_eq_true rfl) ?_
  cases hf
  exact nd_vret dX6_enter_37
set_option maxHeartbeats 4000000 in
theorem tX6_enter_25 (l : Launch) (w : Wd) (hfl : l.stackTraces = false) (F d : Nat) (r : Hp) (x2 : Int32) (s0 : Nat) (s1 : Int32) (s2 : Int32) (k_s0 : nd_Kd s0 = 5) (h : Hp) (hf : fX6_enter_25 F d x2 s0 s1 s2 h = some r) : nd_V l w yX6_enter cX6_enter 3 none 3 62 (.inl none, r) h 25 [(2, vi x2)] [vi s2, vi s1, vr (some s0)] := by
  unfold fX6_enter_25 at hf
  refine nd_iload_n (j := 0) dX6_enter_25 rfl rfl ?_
  refine nd_if_ge (tgt := 33) dX6_enter_26 (by decide) (fun c1 => ?_) (fun c1 => ?_)
  · replace hf := ifp c1 hf
    refine nd_iconst (v := 0) dX6_enter_33 (by decide) ?_
    exact nd_loc [] rfl (tX6_enter_34 l w hfl F d r _ _ _ _ k_s0 _ hf)
  · replace hf := ifn c1 hf
    refine nd_iconst (v := 1) dX6_enter_29 (by decide) ?_
    refine nd_goto (tgt := 34) dX6_enter_30 (by decide) ?_
    exact nd_loc [] rfl (tX6_enter_34 l w hfl F d r _ _ _ _ k_s0 _ hf)
set_option maxHeartbeats 4000000 in
theorem tX6_enter (l : Launch) (w : Wd) (hfl : l.stackTraces = false) (F d : Nat) {this : Nat} {p0 : Int32} (k_this : nd_Kd this = 5) {h : Hp} {r : Hp} (hf : fX6_enter F d this p0 h = some r) : nd_C l w yX6_enter cX6_enter 3 none 3 62 [vr (some this), vi p0] h (.inl none, r) := by
  refine nd_start (as := [vr (some this), vi p0]) hfl (by decide) (Nat.le_of_ble_eq_true rfl) ?_
  unfold fX6_enter at hf
  refine nd_eqL (L' := [(0, vr (some this)), (1, vi p0)]) rfl ?_
  refine nd_aload_n (j := 0) dX6_enter_0 rfl rfl ?_
  refine nd_iconst (v := 1) dX6_enter_1 (by decide) ?_
  replace hf := caE hf
  obtain ⟨v2, h1, e_h1, hf⟩ := hf
  refine nd_Vi [] (tX6_length l w hfl F d k_this e_h1) rfl dX6_enter_2 mw_X6_length (Or.inl q1651) k_this rfl q1653 qs54 (by omega) (by omega) (Nat.le_of_ble_eq_true rfl) ?_
  refine nd_istore_n [(2, vi v2), (0, vr (some this)), (1, vi p0)] dX6_enter_5 rfl (Nat.le_of_ble_eq_true rfl) rfl ?_
  refine nd_aload_n (j := 1) dX6_enter_6 rfl rfl ?_
  refine nd_iload_n (j := 2) dX6_enter_7 rfl rfl ?_
  refine nd_iload_n (j := 0) dX6_enter_8 rfl rfl ?_
  refine nd_if_ge (tgt := 19) dX6_enter_9 (by decide) (fun c3 => ?_) (fun c3 => ?_)
  · replace hf := ifp c3 hf
    refine nd_aload_n (j := 1) dX6_enter_19 rfl rfl ?_
    refine nd_getI (k := 47) dX6_enter_20 k_this rfl (Nat.le_of_ble_eq_true rfl) (nd_flO q1387) rfl ?_
    refine nd_iload_n (j := 0) dX6_enter_23 rfl rfl ?_
    refine nd_iadd dX6_enter_24 ?_
    exact nd_loc [0] rfl (tX6_enter_25 l w hfl F d r _ _ _ _ k_this _ hf)
  · replace hf := ifn c3 hf
    refine nd_aload_n (j := 1) dX6_enter_12 rfl rfl ?_
    replace hf := caE hf
    obtain ⟨v5, h4, e_h4, hf⟩ := hf
    refine nd_Vi [vi p0, vr (some this)] (tX6_bound l w hfl F d k_this e_h4) rfl dX6_enter_13 mw_X6_bound (Or.inl q1643) k_this rfl q1645 qs52 (by omega) (by omega) (Nat.le_of_ble_eq_true rfl) ?_
    refine nd_goto (tgt := 25) dX6_enter_16 (by decide) ?_
    exact nd_loc [0] rfl (tX6_enter_25 l w hfl F d r _ _ _ _ k_this _ hf)
def fX6_bitOf_26 (F d : Nat) (x0 : Int32) (h : Hp) : Option (Int32 × Hp) :=
  some ((1 <<< ((20 + (x0 - x0 / 32 * 32)) &&& 31)), h)
def fX6_bitOf_56 (F d : Nat) (x0 : Int32) (h : Hp) : Option (Int32 × Hp) :=
  some ((1 <<< (x0 &&& 31)), h)
def fX6_bitOf (F d : Nat) (p0 : Int32) (h : Hp) : Option (Int32 × Hp) :=
  ca (fX6_in F d p0 128 137 h) fun v2 h1 => (
  if v2 = 0 then
  (ca (fX6_in F d p0 160 169 h1) fun v5 h4 => (
  if v5 = 0 then
  (if p0 = 1 then
  (fX6_bitOf_56 F d p0 h4)
  else
  (if p0 = 2 then
  (fX6_bitOf_56 F d p0 h4)
  else
  (if p0 = 4 then
  (fX6_bitOf_56 F d p0 h4)
  else
  (if p0 = 5 then
  (fX6_bitOf_56 F d p0 h4)
  else
  (if p0 = 48 then
  (some (65536, h4))
  else
  (some (0, h4)))))))
  else
  (fX6_bitOf_26 F d p0 h4)))
  else
  (fX6_bitOf_26 F d p0 h1))
theorem mw_X6_bitOf : nd_MW yX6_bitOf cX6_bitOf 1 (some .int) 1 := ⟨q1661, q91, by decide, by decide, by decide +kernel⟩
set_option maxHeartbeats 4000000 in
theorem tX6_bitOf_26 (l : Launch) (w : Wd) (hfl : l.stackTraces = false) (F d : Nat) (r : Int32 × Hp) (x0 : Int32)  (h : Hp) (hf : fX6_bitOf_26 F d x0 h = some r) : nd_V l w yX6_bitOf cX6_bitOf 1 (some .int) 1 22 (.inl (some (vi r.1)), r.2) h 26 [(0, vi x0)] [] := by
  unfold fX6_bitOf_26 at hf
  refine nd_iconst (v := 1) dX6_bitOf_26 (by decide) ?_
  refine nd_bipush (v := 20) dX6_bitOf_27 (by decide) ?_
  refine nd_iload_n (j := 0) dX6_bitOf_29 rfl rfl ?_
  refine nd_bipush (v := 32) dX6_bitOf_30 (by decide) ?_
  refine nd_irem dX6_bitOf_32 (by decide) ?_
  refine nd_iadd dX6_bitOf_33 ?_
  refine nd_ishl dX6_bitOf_34 ?_
  cases hf
  exact nd_iret (v := (1 <<< ((20 + (x0 - x0 / 32 * 32)) &&& 31))) dX6_bitOf_35
set_option maxHeartbeats 4000000 in
theorem tX6_bitOf_56 (l : Launch) (w : Wd) (hfl : l.stackTraces = false) (F d : Nat) (r : Int32 × Hp) (x0 : Int32)  (h : Hp) (hf : fX6_bitOf_56 F d x0 h = some r) : nd_V l w yX6_bitOf cX6_bitOf 1 (some .int) 1 22 (.inl (some (vi r.1)), r.2) h 56 [(0, vi x0)] [] := by
  unfold fX6_bitOf_56 at hf
  refine nd_iconst (v := 1) dX6_bitOf_56 (by decide) ?_
  refine nd_iload_n (j := 0) dX6_bitOf_57 rfl rfl ?_
  refine nd_ishl dX6_bitOf_58 ?_
  refine nd_goto (tgt := 74) dX6_bitOf_59 (by decide) ?_
  cases hf
  exact nd_iret (v := (1 <<< (x0 &&& 31))) dX6_bitOf_74
set_option maxHeartbeats 4000000 in
theorem tX6_bitOf (l : Launch) (w : Wd) (hfl : l.stackTraces = false) (F d : Nat) {p0 : Int32}  {h : Hp} {r : Int32 × Hp} (hf : fX6_bitOf F d p0 h = some r) : nd_C l w yX6_bitOf cX6_bitOf 1 (some .int) 1 22 [vi p0] h (.inl (some (vi r.1)), r.2) := by
  refine nd_start (as := [vi p0]) hfl (by decide) (Nat.le_of_ble_eq_true rfl) ?_
  unfold fX6_bitOf at hf
  refine nd_eqL (L' := [(0, vi p0)]) rfl ?_
  refine nd_iload_n (j := 0) dX6_bitOf_0 rfl rfl ?_
  refine nd_sipush (v := 128) dX6_bitOf_1 (by decide) ?_
  refine nd_sipush (v := 137) dX6_bitOf_4 (by decide) ?_
  replace hf := caE hf
  obtain ⟨v2, h1, e_h1, hf⟩ := hf
  refine nd_Si [] (tX6_in l w hfl F d e_h1) rfl dX6_bitOf_7 mw_X6_in (Or.inl q1542) q1543 (by omega) (by omega) (Nat.le_of_ble_eq_true rfl) ?_
  refine nd_if_ne (tgt := 26) dX6_bitOf_10 (by decide) (fun c3 => ?_) (fun c3 => ?_)
  · replace hf := ifn c3 hf
    exact nd_loc [0] rfl (tX6_bitOf_26 l w hfl F d r _ _ hf)
  · replace hf := ifp c3 hf
    refine nd_iload_n (j := 0) dX6_bitOf_13 rfl rfl ?_
    refine nd_sipush (v := 160) dX6_bitOf_14 (by decide) ?_
    refine nd_sipush (v := 169) dX6_bitOf_17 (by decide) ?_
    replace hf := caE hf
    obtain ⟨v5, h4, e_h4, hf⟩ := hf
    refine nd_Si [] (tX6_in l w hfl F d e_h4) rfl dX6_bitOf_20 mw_X6_in (Or.inl q1542) q1543 (by omega) (by omega) (Nat.le_of_ble_eq_true rfl) ?_
    refine nd_if_eq (tgt := 36) dX6_bitOf_23 (by decide) (fun c6 => ?_) (fun c6 => ?_)
    · replace hf := ifp c6 hf
      refine nd_iload_n (j := 0) dX6_bitOf_36 rfl rfl ?_
      refine nd_iconst (v := 1) dX6_bitOf_37 (by decide) ?_
      refine nd_icmp_eq (tgt := 56) dX6_bitOf_38 (by decide) (fun c7 => ?_) (fun c7 => ?_)
      · replace hf := ifp c7 hf
        exact nd_loc [0] rfl (tX6_bitOf_56 l w hfl F d r _ _ hf)
      · replace hf := ifn c7 hf
        refine nd_iload_n (j := 0) dX6_bitOf_41 rfl rfl ?_
        refine nd_iconst (v := 2) dX6_bitOf_42 (by decide) ?_
        refine nd_icmp_eq (tgt := 56) dX6_bitOf_43 (by decide) (fun c8 => ?_) (fun c8 => ?_)
        · replace hf := ifp c8 hf
          exact nd_loc [0] rfl (tX6_bitOf_56 l w hfl F d r _ _ hf)
        · replace hf := ifn c8 hf
          refine nd_iload_n (j := 0) dX6_bitOf_46 rfl rfl ?_
          refine nd_iconst (v := 4) dX6_bitOf_47 (by decide) ?_
          refine nd_icmp_eq (tgt := 56) dX6_bitOf_48 (by decide) (fun c9 => ?_) (fun c9 => ?_)
          · replace hf := ifp c9 hf
            exact nd_loc [0] rfl (tX6_bitOf_56 l w hfl F d r _ _ hf)
          · replace hf := ifn c9 hf
            refine nd_iload_n (j := 0) dX6_bitOf_51 rfl rfl ?_
            refine nd_iconst (v := 5) dX6_bitOf_52 (by decide) ?_
            refine nd_icmp_ne (tgt := 62) dX6_bitOf_53 (by decide) (fun c10 => ?_) (fun c10 => ?_)
            · replace hf := ifn c10 hf
              refine nd_iload_n (j := 0) dX6_bitOf_62 rfl rfl ?_
              refine nd_bipush (v := 48) dX6_bitOf_63 (by decide) ?_
              refine nd_icmp_ne (tgt := 73) dX6_bitOf_65 (by decide) (fun c11 => ?_) (fun c11 => ?_)
              · replace hf := ifn c11 hf
                refine nd_iconst (v := 0) dX6_bitOf_73 (by decide) ?_
                cases hf
                exact nd_iret (v := 0) dX6_bitOf_74
              · replace hf := ifp c11 hf
                refine nd_ldc (v := 65536) dX6_bitOf_68 q1585 ?_
                refine nd_goto (tgt := 74) dX6_bitOf_70 (by decide) ?_
                cases hf
                exact nd_iret (v := 65536) dX6_bitOf_74
            · replace hf := ifp c10 hf
              exact nd_loc [0] rfl (tX6_bitOf_56 l w hfl F d r _ _ hf)
    · replace hf := ifn c6 hf
      exact nd_loc [0] rfl (tX6_bitOf_26 l w hfl F d r _ _ hf)
def fX6_adds_14 (F d : Nat) (this : Nat) (x1 : Int32) (x2 : Int32) (x3 : Int32) (x4 : Int32) (h : Hp) : Option (Int32 × Hp) :=
  if (gI h 649 this) = 0 then
  (some (99, h))
  else
  (nn (gP h 636 this) fun a3 => (
  ck (inb (gI h 634 this) (nd_Ln a3)) (
  bn (sA h a3 (Int32.toNatClampNeg (gI h 634 this)) x1) fun h5 => (
  nn (gP h5 639 this) fun a7 => (
  ck (inb (gI h5 634 this) (nd_Ln a7)) (
  bn (sA h5 a7 (Int32.toNatClampNeg (gI h5 634 this)) x2) fun h9 => (
  nn (gP h9 638 this) fun a11 => (
  ck (inb (gI h9 634 this) (nd_Ln a11)) (
  bn (sA h9 a11 (Int32.toNatClampNeg (gI h9 634 this)) x3) fun h13 => (
  nn (gP h13 637 this) fun a15 => (
  ck (inb (gI h13 634 this) (nd_Ln a15)) (
  bn (sA h13 a15 (Int32.toNatClampNeg (gI h13 634 this)) x4) fun h17 => (
  nn (gP h17 640 this) fun a19 => (
  ck (inb (gI h17 634 this) (nd_Ln a19)) (
  bn (sA h17 a19 (Int32.toNatClampNeg (gI h17 634 this)) (gI h17 635 this)) fun h21 => (
  bn (sI h21 634 this ((gI h21 634 this) + 1)) fun h22 => (
  some (((gI h22 634 this) - 1), h22))))))))))))))))))
def fX6_adds (F d : Nat) (this : Nat) (p0 : Int32) (p1 : Int32) (p2 : Int32) (p3 : Int32) (h : Hp) : Option (Int32 × Hp) :=
  if (gI h 634 this) = 100 then
  (bn (sI h 649 this 0) fun h2 => (
  fX6_adds_14 F d this p0 p1 p2 p3 h2))
  else
  (fX6_adds_14 F d this p0 p1 p2 p3 h)
theorem mw_X6_adds : nd_MW yX6_adds cX6_adds 5 (some .int) 4 := ⟨q1665, q91, by decide, by decide, by decide +kernel⟩
set_option maxHeartbeats 4000000 in
theorem tX6_adds_14 (l : Launch) (w : Wd) (hfl : l.stackTraces = false) (F d : Nat) (r : Int32 × Hp) (this : Nat) (x1 : Int32) (x2 : Int32) (x3 : Int32) (x4 : Int32) (k_this : nd_Kd this = 5) (h : Hp) (hf : fX6_adds_14 F d this x1 x2 x3 x4 h = some r) : nd_V l w yX6_adds cX6_adds 5 (some .int) 0 0 (.inl (some (vi r.1)), r.2) h 14 [(0, vr (some this)), (1, vi x1), (2, vi x2), (3, vi x3), (4, vi x4)] [] := by
  unfold fX6_adds_14 at hf
  refine nd_aload_n (j := 0) dX6_adds_14 rfl rfl ?_
  refine nd_getI (k := 49) dX6_adds_15 k_this rfl (Nat.le_of_ble_eq_true rfl) (nd_flO q1389) rfl ?_
  refine nd_if_ne (tgt := 24) dX6_adds_18 (by decide) (fun c1 => ?_) (fun c1 => ?_)
  · replace hf := ifn c1 hf
    refine nd_aload_n (j := 0) dX6_adds_24 rfl rfl ?_
    refine nd_getP (k := 36) dX6_adds_25 k_this rfl (Nat.le_of_ble_eq_true rfl) (nd_flO q1376) rfl (fun ok2 => ?_)
    replace hf := nnE hf
    obtain ⟨a3, e_a3, hf⟩ := hf
    refine nd_topr e_a3.symm ?_
    have k_a3 : nd_Kd a3 = 20 := nd_c1 (ok2 a3 e_a3)
    refine nd_aload_n (j := 0) dX6_adds_28 rfl rfl ?_
    refine nd_getI (k := 34) dX6_adds_29 k_this rfl (Nat.le_of_ble_eq_true rfl) (nd_flO q1374) rfl ?_
    refine nd_iload_n (j := 1) dX6_adds_32 rfl rfl ?_
    replace hf := ckE hf
    obtain ⟨c4, hf⟩ := hf
    refine nd_iast dX6_adds_33 k_a3 c4 ?_
    replace hf := bnE hf
    obtain ⟨h5, e_h5, hf⟩ := hf
    refine nd_hp e_h5 ?_
    refine nd_aload_n (j := 0) dX6_adds_34 rfl rfl ?_
    refine nd_getP (k := 39) dX6_adds_35 k_this rfl (Nat.le_of_ble_eq_true rfl) (nd_flO q1379) rfl (fun ok6 => ?_)
    replace hf := nnE hf
    obtain ⟨a7, e_a7, hf⟩ := hf
    refine nd_topr e_a7.symm ?_
    have k_a7 : nd_Kd a7 = 20 := nd_c1 (ok6 a7 e_a7)
    refine nd_aload_n (j := 0) dX6_adds_38 rfl rfl ?_
    refine nd_getI (k := 34) dX6_adds_39 k_this rfl (Nat.le_of_ble_eq_true rfl) (nd_flO q1374) rfl ?_
    refine nd_iload_n (j := 2) dX6_adds_42 rfl rfl ?_
    replace hf := ckE hf
    obtain ⟨c8, hf⟩ := hf
    refine nd_iast dX6_adds_43 k_a7 c8 ?_
    replace hf := bnE hf
    obtain ⟨h9, e_h9, hf⟩ := hf
    refine nd_hp e_h9 ?_
    refine nd_aload_n (j := 0) dX6_adds_44 rfl rfl ?_
    refine nd_getP (k := 38) dX6_adds_45 k_this rfl (Nat.le_of_ble_eq_true rfl) (nd_flO q1378) rfl (fun ok10 => ?_)
    replace hf := nnE hf
    obtain ⟨a11, e_a11, hf⟩ := hf
    refine nd_topr e_a11.symm ?_
    have k_a11 : nd_Kd a11 = 20 := nd_c1 (ok10 a11 e_a11)
    refine nd_aload_n (j := 0) dX6_adds_48 rfl rfl ?_
    refine nd_getI (k := 34) dX6_adds_49 k_this rfl (Nat.le_of_ble_eq_true rfl) (nd_flO q1374) rfl ?_
    refine nd_iload_n (j := 3) dX6_adds_52 rfl rfl ?_
    replace hf := ckE hf
    obtain ⟨c12, hf⟩ := hf
    refine nd_iast dX6_adds_53 k_a11 c12 ?_
    replace hf := bnE hf
    obtain ⟨h13, e_h13, hf⟩ := hf
    refine nd_hp e_h13 ?_
    refine nd_aload_n (j := 0) dX6_adds_54 rfl rfl ?_
    refine nd_getP (k := 37) dX6_adds_55 k_this rfl (Nat.le_of_ble_eq_true rfl) (nd_flO q1377) rfl (fun ok14 => ?_)
    replace hf := nnE hf
    obtain ⟨a15, e_a15, hf⟩ := hf
    refine nd_topr e_a15.symm ?_
    have k_a15 : nd_Kd a15 = 20 := nd_c1 (ok14 a15 e_a15)
    refine nd_aload_n (j := 0) dX6_adds_58 rfl rfl ?_
    refine nd_getI (k := 34) dX6_adds_59 k_this rfl (Nat.le_of_ble_eq_true rfl) (nd_flO q1374) rfl ?_
    refine nd_iload (j := 4) dX6_adds_62 rfl ?_
    replace hf := ckE hf
    obtain ⟨c16, hf⟩ := hf
    refine nd_iast dX6_adds_64 k_a15 c16 ?_
    replace hf := bnE hf
    obtain ⟨h17, e_h17, hf⟩ := hf
    refine nd_hp e_h17 ?_
    refine nd_aload_n (j := 0) dX6_adds_65 rfl rfl ?_
    refine nd_getP (k := 40) dX6_adds_66 k_this rfl (Nat.le_of_ble_eq_true rfl) (nd_flO q1380) rfl (fun ok18 => ?_)
    replace hf := nnE hf
    obtain ⟨a19, e_a19, hf⟩ := hf
    refine nd_topr e_a19.symm ?_
    have k_a19 : nd_Kd a19 = 20 := nd_c1 (ok18 a19 e_a19)
    refine nd_aload_n (j := 0) dX6_adds_69 rfl rfl ?_
    refine nd_getI (k := 34) dX6_adds_70 k_this rfl (Nat.le_of_ble_eq_true rfl) (nd_flO q1374) rfl ?_
    refine nd_aload_n (j := 0) dX6_adds_73 rfl rfl ?_
    refine nd_getI (k := 35) dX6_adds_74 k_this rfl (Nat.le_of_ble_eq_true rfl) (nd_flO q1375) rfl ?_
    replace hf := ckE hf
    obtain ⟨c20, hf⟩ := hf
    refine nd_iast dX6_adds_77 k_a19 c20 ?_
    replace hf := bnE hf
    obtain ⟨h21, e_h21, hf⟩ := hf
    refine nd_hp e_h21 ?_
    refine nd_aload_n (j := 0) dX6_adds_78 rfl rfl ?_
    refine nd_dup dX6_adds_79 rfl ?_
    refine nd_getI (k := 34) dX6_adds_80 k_this rfl (Nat.le_of_ble_eq_true rfl) (nd_flO q1374) rfl ?_
    refine nd_iconst (v := 1) dX6_adds_83 (by decide) ?_
    refine nd_iadd dX6_adds_84 ?_
    refine nd_putN (k := 34) dX6_adds_85 k_this rfl (Nat.le_of_ble_eq_true rfl) (nd_flO q1374) rfl rfl rfl ?_
    replace hf := bnE hf
    obtain ⟨h22, e_h22, hf⟩ := hf
    refine nd_hp e_h22 ?_
    refine nd_aload_n (j := 0) dX6_adds_88 rfl rfl ?_
    refine nd_getI (k := 34) dX6_adds_89 k_this rfl (Nat.le_of_ble_eq_true rfl) (nd_flO q1374) rfl ?_
    refine nd_iconst (v := 1) dX6_adds_92 (by decide) ?_
    refine nd_isub dX6_adds_93 ?_
    cases hf
    exact nd_iret (v := ((gI h22 634 this) - 1)) dX6_adds_94
  · replace hf := ifp c1 hf
    refine nd_bipush (v := 99) dX6_adds_21 (by decide) ?_
    cases hf
    exact nd_iret (v := 99) dX6_adds_23
set_option maxHeartbeats 4000000 in
theorem tX6_adds (l : Launch) (w : Wd) (hfl : l.stackTraces = false) (F d : Nat) {this : Nat} {p0 : Int32} {p1 : Int32} {p2 : Int32} {p3 : Int32} (k_this : nd_Kd this = 5) {h : Hp} {r : Int32 × Hp} (hf : fX6_adds F d this p0 p1 p2 p3 h = some r) : nd_C l w yX6_adds cX6_adds 5 (some .int) 0 0 [vr (some this), vi p0, vi p1, vi p2, vi p3] h (.inl (some (vi r.1)), r.2) := by
  refine nd_start (as := [vr (some this), vi p0, vi p1, vi p2, vi p3]) hfl (by decide) (Nat.le_of_ble_eq_true rfl) ?_
  unfold fX6_adds at hf
  refine nd_eqL (L' := [(0, vr (some this)), (1, vi p0), (2, vi p1), (3, vi p2), (4, vi p3)]) rfl ?_
  refine nd_aload_n (j := 0) dX6_adds_0 rfl rfl ?_
  refine nd_getI (k := 34) dX6_adds_1 k_this rfl (Nat.le_of_ble_eq_true rfl) (nd_flO q1374) rfl ?_
  refine nd_bipush (v := 100) dX6_adds_4 (by decide) ?_
  refine nd_icmp_ne (tgt := 14) dX6_adds_6 (by decide) (fun c1 => ?_) (fun c1 => ?_)
  · replace hf := ifn c1 hf
    exact nd_loc [0, 1, 2, 3, 4] rfl (tX6_adds_14 l w hfl F d r _ _ _ _ _ k_this _ hf)
  · replace hf := ifp c1 hf
    refine nd_aload_n (j := 0) dX6_adds_9 rfl rfl ?_
    refine nd_iconst (v := 0) dX6_adds_10 (by decide) ?_
    refine nd_putZ (k := 49) (by decide) dX6_adds_11 k_this rfl (Nat.le_of_ble_eq_true rfl) (nd_flO q1389) rfl rfl rfl ?_
    replace hf := bnE hf
    obtain ⟨h2, e_h2, hf⟩ := hf
    refine nd_hp e_h2 ?_
    exact nd_loc [0, 1, 2, 3, 4] rfl (tX6_adds_14 l w hfl F d r _ _ _ _ _ k_this _ hf)
def fX6_bytesOf (F d : Nat) (p0 : Int32) (h : Hp) : Option (Int32 × Hp) :=
  ca (fX6_in F d p0 (-128) 127 h) fun v2 h1 => (
  if v2 = 0 then
  (ca (fX6_in F d p0 (-32768) 32767 h1) fun v5 h4 => (
  if v5 = 0 then
  (ca (fX6_in F d p0 (-8388608) 8388607 h4) fun v8 h7 => (
  if v8 = 0 then
  (some (4, h7))
  else
  (some (3, h7))))
  else
  (some (2, h4))))
  else
  (some (1, h1)))
theorem mw_X6_bytesOf : nd_MW yX6_bytesOf cX6_bytesOf 1 (some .int) 1 := ⟨q1672, q91, by decide, by decide, by decide +kernel⟩
set_option maxHeartbeats 4000000 in
theorem tX6_bytesOf (l : Launch) (w : Wd) (hfl : l.stackTraces = false) (F d : Nat) {p0 : Int32}  {h : Hp} {r : Int32 × Hp} (hf : fX6_bytesOf F d p0 h = some r) : nd_C l w yX6_bytesOf cX6_bytesOf 1 (some .int) 1 22 [vi p0] h (.inl (some (vi r.1)), r.2) := by
  refine nd_start (as := [vi p0]) hfl (by decide) (Nat.le_of_ble_eq_true rfl) ?_
  unfold fX6_bytesOf at hf
  refine nd_eqL (L' := [(0, vi p0)]) rfl ?_
  refine nd_iload_n (j := 0) dX6_bytesOf_0 rfl rfl ?_
  refine nd_bipush (v := (-128)) dX6_bytesOf_1 (by decide) ?_
  refine nd_bipush (v := 127) dX6_bytesOf_3 (by decide) ?_
  replace hf := caE hf
  obtain ⟨v2, h1, e_h1, hf⟩ := hf
  refine nd_Si [] (tX6_in l w hfl F d e_h1) rfl dX6_bytesOf_5 mw_X6_in (Or.inl q1542) q1543 (by omega) (by omega) (Nat.le_of_ble_eq_true rfl) ?_
  refine nd_if_eq (tgt := 15) dX6_bytesOf_8 (by decide) (fun c3 => ?_) (fun c3 => ?_)
  · replace hf := ifp c3 hf
    refine nd_iload_n (j := 0) dX6_bytesOf_15 rfl rfl ?_
    refine nd_sipush (v := (-32768)) dX6_bytesOf_16 (by decide) ?_
    refine nd_sipush (v := 32767) dX6_bytesOf_19 (by decide) ?_
    replace hf := caE hf
    obtain ⟨v5, h4, e_h4, hf⟩ := hf
    refine nd_Si [] (tX6_in l w hfl F d e_h4) rfl dX6_bytesOf_22 mw_X6_in (Or.inl q1542) q1543 (by omega) (by omega) (Nat.le_of_ble_eq_true rfl) ?_
    refine nd_if_eq (tgt := 32) dX6_bytesOf_25 (by decide) (fun c6 => ?_) (fun c6 => ?_)
    · replace hf := ifp c6 hf
      refine nd_iload_n (j := 0) dX6_bytesOf_32 rfl rfl ?_
      refine nd_ldcw (v := (-8388608)) dX6_bytesOf_33 q1673 ?_
      refine nd_ldcw (v := 8388607) dX6_bytesOf_36 q1674 ?_
      replace hf := caE hf
      obtain ⟨v8, h7, e_h7, hf⟩ := hf
      refine nd_Si [] (tX6_in l w hfl F d e_h7) rfl dX6_bytesOf_39 mw_X6_in (Or.inl q1542) q1543 (by omega) (by omega) (Nat.le_of_ble_eq_true rfl) ?_
      refine nd_if_eq (tgt := 49) dX6_bytesOf_42 (by decide) (fun c9 => ?_) (fun c9 => ?_)
      · replace hf := ifp c9 hf
        refine nd_iconst (v := 4) dX6_bytesOf_49 (by decide) ?_
        cases hf
        exact nd_iret (v := 4) dX6_bytesOf_50
      · replace hf := ifn c9 hf
        refine nd_iconst (v := 3) dX6_bytesOf_45 (by decide) ?_
        refine nd_goto (tgt := 50) dX6_bytesOf_46 (by decide) ?_
        cases hf
        exact nd_iret (v := 3) dX6_bytesOf_50
    · replace hf := ifn c6 hf
      refine nd_iconst (v := 2) dX6_bytesOf_28 (by decide) ?_
      refine nd_goto (tgt := 50) dX6_bytesOf_29 (by decide) ?_
      cases hf
      exact nd_iret (v := 2) dX6_bytesOf_50
  · replace hf := ifn c3 hf
    refine nd_iconst (v := 1) dX6_bytesOf_11 (by decide) ?_
    refine nd_goto (tgt := 50) dX6_bytesOf_12 (by decide) ?_
    cases hf
    exact nd_iret (v := 1) dX6_bytesOf_50
def fX6_inner_382 (F d : Nat) (s0 : Nat) (h : Hp) : Option (Hp) :=
  bn (sI h 649 s0 1) fun h1 => (
  some h1)
def fX6_inner_339 (F d : Nat) (this : Nat) (x5 : Int32) (s0 : Nat) (h : Hp) : Option (Hp) :=
  nn (gP h 618 this) fun a2 => (
  ck (inb (gI h 623 this) (nd_Ln a2)) (
  if (gA h a2 (Int32.toNatClampNeg (gI h 623 this))) = 0 then
  (fX6_inner_382 F d s0 h)
  else
  (nn (gP h 637 this) fun a6 => (
  ck (inb x5 (nd_Ln a6)) (
  nn (gP h 612 this) fun a9 => (
  ck (inb (gI h 623 this) (nd_Ln a9)) (
  nn (gP h 613 this) fun a12 => (
  ck (inb (gI h 623 this) (nd_Ln a12)) (
  ca (fX6_in F d (gA h a6 (Int32.toNatClampNeg x5)) (gA h a9 (Int32.toNatClampNeg (gI h 623 this))) (gA h a12 (Int32.toNatClampNeg (gI h 623 this))) h) fun v15 h14 => (
  if v15 = 0 then
  (bn (sI h14 649 s0 0) fun h17 => (
  some h17))
  else
  (fX6_inner_382 F d s0 h14)))))))))))
def fX6_inner_321 (F d : Nat) (this : Nat) (x4 : Int32) (x5 : Int32) (x7 : Int32) (x8 : Int32) (s0 : Nat) (s1 : Int32) (s2 : Int32) (h : Hp) : Option (Hp) :=
  ck (inb s1 (nd_Ln s0)) (
  bn (sA h s0 (Int32.toNatClampNeg s1) s2) fun h2 => (
  if x4 = 2 then
  (ca (fX6_bytesOf F d x8 h2) fun v5 h4 => (
  if x7 = v5 then
  (fX6_inner_339 F d this x5 this h4)
  else
  (bn (sI h4 649 this 0) fun h7 => (
  some h7))))
  else
  (fX6_inner_339 F d this x5 this h2)))
def fX6_inner_263 (F d : Nat) (k_205 : Nat → Int32 → Int32 → Int32 → Int32 → Int32 → Hp → Option (Hp)) (this : Nat) (x4 : Int32) (x5 : Int32) (x7 : Int32) (x8 : Int32) (x9 : Int32) (s0 : Nat) (s1 : Int32) (s2 : Int32) (h : Hp) : Option (Hp) :=
  bn (sI h 635 s0 (s1 + s2)) fun h1 => (
  bn (sI h1 647 this ((gI h1 647 this) + 1)) fun h2 => (
  bn (x9 + 1) fun v3 => (
  k_205 this x4 x5 x7 x8 v3 h2)))
def fX6_inner_205 (F d : Nat) : Nat → Nat → Int32 → Int32 → Int32 → Int32 → Int32 → Hp → Option (Hp)
  | 0, _, _, _, _, _, _, _ => none
  | n + 1, this, x4, x5, x7, x8, x9, h =>
    if x7 ≤ x9 then
    (nn (gP h 637 this) fun a3 => (
    if x4 = 2 then
    (fX6_inner_321 F d this x4 x5 x7 x8 a3 x5 x8 h)
    else
    (if x4 = 4 then
    (fX6_inner_321 F d this x4 x5 x7 x8 a3 x5 x7 h)
    else
    (if x8 ≤ 0 then
    (fX6_inner_321 F d this x4 x5 x7 x8 a3 x5 0 h)
    else
    (fX6_inner_321 F d this x4 x5 x7 x8 a3 x5 1 h)))))
    else
    (nn (gP h 632 this) fun a8 => (
    ck (inb (gI h 647 this) (nd_Ln a8)) (
    bn ((x8 <<< (8 &&& 31)) ||| (gA h a8 (Int32.toNatClampNeg (gI h 647 this)))) fun v10 => (
    nn (gP h 643 this) fun a12 => (
    nn (gP h 632 this) fun a14 => (
    ck (inb (gI h 647 this) (nd_Ln a14)) (
    ck (inb (gI h 635 this) (nd_Ln a12)) (
    bn (sA h a12 (Int32.toNatClampNeg (gI h 635 this)) (gA h a14 (Int32.toNatClampNeg (gI h 647 this)))) fun h17 => (
    if x4 = 4 then
    (fX6_inner_263 F d (fX6_inner_205 F d n) this x4 x5 x7 v10 x9 this (gI h17 635 this) 1 h17)
    else
    (fX6_inner_263 F d (fX6_inner_205 F d n) this x4 x5 x7 v10 x9 this (gI h17 635 this) 0 h17))))))))))
def fX6_inner_200 (F d : Nat) (this : Nat) (x4 : Int32) (x5 : Int32) (x7 : Int32) (s0 : Int32) (h : Hp) : Option (Hp) :=
  fX6_inner_205 F d F this x4 x5 x7 s0 0 h
def fX6_inner_199 (F d : Nat) (this : Nat) (x4 : Int32) (x5 : Int32) (x7 : Int32) (h : Hp) : Option (Hp) :=
  fX6_inner_200 F d this x4 x5 x7 0 h
def fX6_inner_156 (F d : Nat) (this : Nat) (x4 : Int32) (x5 : Int32) (x6 : Int32) (x7 : Int32) (h : Hp) : Option (Hp) :=
  if (gI h 649 this) = 0 then
  (some h)
  else
  (if x6 = 0 then
  (if x4 = 5 then
  (some h)
  else
  (if x4 = 2 then
  (nn (gP h 632 this) fun a6 => (
  ck (inb (gI h 647 this) (nd_Ln a6)) (
  if (gA h a6 (Int32.toNatClampNeg (gI h 647 this))) ≤ 127 then
  (fX6_inner_199 F d this x4 x5 x7 h)
  else
  (fX6_inner_200 F d this x4 x5 x7 (-1) h))))
  else
  (fX6_inner_199 F d this x4 x5 x7 h)))
  else
  (some h))
def fX6_inner_151 (F d : Nat) (this : Nat) (x4 : Int32) (x5 : Int32) (x6 : Int32) (x7 : Int32) (h : Hp) : Option (Hp) :=
  bn (sI h 649 this 0) fun h1 => (
  fX6_inner_156 F d this x4 x5 x6 x7 h1)
def fX6_inner_135 (F d : Nat) (this : Nat) (x4 : Int32) (x5 : Int32) (x6 : Int32) (x7 : Int32) (h : Hp) : Option (Hp) :=
  if x4 = 2 then
  (ca (fX6_in F d x7 1 4 h) fun v3 h2 => (
  if v3 = 0 then
  (fX6_inner_151 F d this x4 x5 x6 x7 h2)
  else
  (fX6_inner_156 F d this x4 x5 x6 x7 h2)))
  else
  (fX6_inner_156 F d this x4 x5 x6 x7 h)
def fX6_inner_123 (F d : Nat) (this : Nat) (x4 : Int32) (x5 : Int32) (x6 : Int32) (x7 : Int32) (h : Hp) : Option (Hp) :=
  if x4 = 1 then
  (if x7 = 1 then
  (fX6_inner_135 F d this x4 x5 x6 x7 h)
  else
  (fX6_inner_151 F d this x4 x5 x6 x7 h))
  else
  (fX6_inner_135 F d this x4 x5 x6 x7 h)
def fX6_inner_110 (F d : Nat) (this : Nat) (x4 : Int32) (x5 : Int32) (x6 : Int32) (s0 : Int32) (h : Hp) : Option (Hp) :=
  if x4 = 5 then
  (if s0 = 0 then
  (fX6_inner_123 F d this x4 x5 x6 s0 h)
  else
  (fX6_inner_151 F d this x4 x5 x6 s0 h))
  else
  (fX6_inner_123 F d this x4 x5 x6 s0 h)
def fX6_inner_109 (F d : Nat) (this : Nat) (x4 : Int32) (x5 : Int32) (x6 : Int32) (h : Hp) : Option (Hp) :=
  fX6_inner_110 F d this x4 x5 x6 0 h
def fX6_inner_89 (F d : Nat) (this : Nat) (x4 : Int32) (x5 : Int32) (x6 : Int32) (h : Hp) : Option (Hp) :=
  if (gI h 649 this) = 0 then
  (fX6_inner_109 F d this x4 x5 x6 h)
  else
  (if x6 = 0 then
  (ca (fX6_length F d this 0 h) fun v4 h3 => (
  fX6_inner_110 F d this x4 x5 x6 v4 h3))
  else
  (fX6_inner_109 F d this x4 x5 x6 h))
def fX6_inner_69 (F d : Nat) (this : Nat) (x4 : Int32) (x5 : Int32) (s0 : Int32) (h : Hp) : Option (Hp) :=
  if (gI h 649 this) = 0 then
  (fX6_inner_89 F d this x4 x5 s0 h)
  else
  (if s0 = 0 then
  (fX6_inner_89 F d this x4 x5 s0 h)
  else
  (cv (fX6_enter F d this x5 h) fun h3 => (
  fX6_inner_89 F d this x4 x5 s0 h3)))
def fX6_inner_64 (F d : Nat) (this : Nat) (x4 : Int32) (x5 : Int32) (h : Hp) : Option (Hp) :=
  fX6_inner_69 F d this x4 x5 1 h
def fX6_inner_48 (F d : Nat) (this : Nat) (x4 : Int32) (s0 : Int32) (h : Hp) : Option (Hp) :=
  if x4 = 6 then
  (fX6_inner_64 F d this x4 s0 h)
  else
  (if x4 = 7 then
  (fX6_inner_64 F d this x4 s0 h)
  else
  (fX6_inner_69 F d this x4 s0 0 h))
def fX6_inner_29 (F d : Nat) (this : Nat) (x1 : Int32) (x2 : Int32) (x3 : Int32) (x4 : Int32) (h : Hp) : Option (Hp) :=
  if (gI h 649 this) = 0 then
  (fX6_inner_48 F d this x4 0 h)
  else
  (ca (fX6_adds F d this x1 x2 x3 0 h) fun v3 h2 => (
  fX6_inner_48 F d this x4 v3 h2))
def fX6_inner (F d : Nat) (this : Nat) (p0 : Int32) (p1 : Int32) (p2 : Int32) (h : Hp) : Option (Hp) :=
  nn (gP h 611 this) fun a2 => (
  ck (inb (gI h 623 this) (nd_Ln a2)) (
  bn (gA h a2 (Int32.toNatClampNeg (gI h 623 this))) fun v4 => (
  ca (fX6_next F d this h) fun v6 h5 => (
  nn (gP h5 625 this) fun a8 => (
  ck (inb 0 (nd_Ln a8)) (
  if v6 = (gA h5 a8 (Int32.toNatClampNeg 0)) then
  (fX6_inner_29 F d this p0 p1 p2 v4 h5)
  else
  (bn (sI h5 649 this 0) fun h11 => (
  fX6_inner_29 F d this p0 p1 p2 v4 h11))))))))
theorem mw_X6_inner : nd_MW yX6_inner cX6_inner 10 none 3 := ⟨q1669, q91, by decide, by decide, by decide +kernel⟩
set_option maxHeartbeats 4000000 in
theorem tX6_inner_382 (l : Launch) (w : Wd) (hfl : l.stackTraces = false) (F d : Nat) (r : Hp) (s0 : Nat) (k_s0 : nd_Kd s0 = 5) (h : Hp) (hf : fX6_inner_382 F d s0 h = some r) : nd_V l w yX6_inner cX6_inner 10 none 4 84 (.inl none, r) h 382 [] [vr (some s0)] := by
  unfold fX6_inner_382 at hf
  refine nd_iconst (v := 1) dX6_inner_382 (by decide) ?_
  refine nd_goto (tgt := 387) dX6_inner_383 (by decide) ?_
  refine nd_putZ (k := 49) (by decide) dX6_inner_387 k_s0 rfl (Nat.le_of_ble_eq_true rfl) (nd_flO q1389) rfl rfl rfl ?_
  replace hf := bnE hf
  obtain ⟨h1, e_h1, hf⟩ := hf
  refine nd_hp e_h1 ?_
  cases hf
  exact nd_vret dX6_inner_390
set_option maxHeartbeats 4000000 in
theorem tX6_inner_339 (l : Launch) (w : Wd) (hfl : l.stackTraces = false) (F d : Nat) (r : Hp) (this : Nat) (x5 : Int32) (s0 : Nat) (k_this : nd_Kd this = 5) (k_s0 : nd_Kd s0 = 5) (h : Hp) (hf : fX6_inner_339 F d this x5 s0 h = some r) : nd_V l w yX6_inner cX6_inner 10 none 4 84 (.inl none, r) h 339 [(0, vr (some this)), (5, vi x5)] [vr (some s0)] := by
  unfold fX6_inner_339 at hf
  refine nd_aload_n (j := 0) dX6_inner_339 rfl rfl ?_
  refine nd_getP (k := 18) dX6_inner_340 k_this rfl (Nat.le_of_ble_eq_true rfl) (nd_flO q1358) rfl (fun ok1 => ?_)
  replace hf := nnE hf
  obtain ⟨a2, e_a2, hf⟩ := hf
  refine nd_topr e_a2.symm ?_
  have k_a2 : nd_Kd a2 = 22 := nd_c1 (ok1 a2 e_a2)
  refine nd_aload_n (j := 0) dX6_inner_343 rfl rfl ?_
  refine nd_getI (k := 23) dX6_inner_344 k_this rfl (Nat.le_of_ble_eq_true rfl) (nd_flO q1363) rfl ?_
  replace hf := ckE hf
  obtain ⟨c3, hf⟩ := hf
  refine nd_zald dX6_inner_347 k_a2 c3 ?_
  refine nd_if_eq (tgt := 382) dX6_inner_348 (by decide) (fun c4 => ?_) (fun c4 => ?_)
  · replace hf := ifp c4 hf
    exact nd_loc [] rfl (tX6_inner_382 l w hfl F d r _ k_s0 _ hf)
  · replace hf := ifn c4 hf
    refine nd_aload_n (j := 0) dX6_inner_351 rfl rfl ?_
    refine nd_getP (k := 37) dX6_inner_352 k_this rfl (Nat.le_of_ble_eq_true rfl) (nd_flO q1377) rfl (fun ok5 => ?_)
    replace hf := nnE hf
    obtain ⟨a6, e_a6, hf⟩ := hf
    refine nd_topr e_a6.symm ?_
    have k_a6 : nd_Kd a6 = 20 := nd_c1 (ok5 a6 e_a6)
    refine nd_iload (j := 1) dX6_inner_355 rfl ?_
    replace hf := ckE hf
    obtain ⟨c7, hf⟩ := hf
    refine nd_iald dX6_inner_357 k_a6 c7 ?_
    refine nd_aload_n (j := 0) dX6_inner_358 rfl rfl ?_
    refine nd_getP (k := 12) dX6_inner_359 k_this rfl (Nat.le_of_ble_eq_true rfl) (nd_flO q1352) rfl (fun ok8 => ?_)
    replace hf := nnE hf
    obtain ⟨a9, e_a9, hf⟩ := hf
    refine nd_topr e_a9.symm ?_
    have k_a9 : nd_Kd a9 = 20 := nd_c1 (ok8 a9 e_a9)
    refine nd_aload_n (j := 0) dX6_inner_362 rfl rfl ?_
    refine nd_getI (k := 23) dX6_inner_363 k_this rfl (Nat.le_of_ble_eq_true rfl) (nd_flO q1363) rfl ?_
    replace hf := ckE hf
    obtain ⟨c10, hf⟩ := hf
    refine nd_iald dX6_inner_366 k_a9 c10 ?_
    refine nd_aload_n (j := 0) dX6_inner_367 rfl rfl ?_
    refine nd_getP (k := 13) dX6_inner_368 k_this rfl (Nat.le_of_ble_eq_true rfl) (nd_flO q1353) rfl (fun ok11 => ?_)
    replace hf := nnE hf
    obtain ⟨a12, e_a12, hf⟩ := hf
    refine nd_topr e_a12.symm ?_
    have k_a12 : nd_Kd a12 = 20 := nd_c1 (ok11 a12 e_a12)
    refine nd_aload_n (j := 0) dX6_inner_371 rfl rfl ?_
    refine nd_getI (k := 23) dX6_inner_372 k_this rfl (Nat.le_of_ble_eq_true rfl) (nd_flO q1363) rfl ?_
    replace hf := ckE hf
    obtain ⟨c13, hf⟩ := hf
    refine nd_iald dX6_inner_375 k_a12 c13 ?_
    replace hf := caE hf
    obtain ⟨v15, h14, e_h14, hf⟩ := hf
    refine nd_Si [vr (some s0)] (tX6_in l w hfl F d e_h14) rfl dX6_inner_376 mw_X6_in (Or.inl q1542) q1543 (by omega) (by omega) (Nat.le_of_ble_eq_true rfl) ?_
    refine nd_if_eq (tgt := 386) dX6_inner_379 (by decide) (fun c16 => ?_) (fun c16 => ?_)
    · replace hf := ifp c16 hf
      refine nd_iconst (v := 0) dX6_inner_386 (by decide) ?_
      refine nd_putZ (k := 49) (by decide) dX6_inner_387 k_s0 rfl (Nat.le_of_ble_eq_true rfl) (nd_flO q1389) rfl rfl rfl ?_
      replace hf := bnE hf
      obtain ⟨h17, e_h17, hf⟩ := hf
      refine nd_hp e_h17 ?_
      cases hf
      exact nd_vret dX6_inner_390
    · replace hf := ifn c16 hf
      exact nd_loc [] rfl (tX6_inner_382 l w hfl F d r _ k_s0 _ hf)
set_option maxHeartbeats 4000000 in
theorem tX6_inner_321 (l : Launch) (w : Wd) (hfl : l.stackTraces = false) (F d : Nat) (r : Hp) (this : Nat) (x4 : Int32) (x5 : Int32) (x7 : Int32) (x8 : Int32) (s0 : Nat) (s1 : Int32) (s2 : Int32) (k_this : nd_Kd this = 5) (k_s0 : nd_Kd s0 = 20) (h : Hp) (hf : fX6_inner_321 F d this x4 x5 x7 x8 s0 s1 s2 h = some r) : nd_V l w yX6_inner cX6_inner 10 none 4 84 (.inl none, r) h 321 [(0, vr (some this)), (4, vi x4), (5, vi x5), (7, vi x7), (8, vi x8)] [vi s2, vi s1, vr (some s0)] := by
  unfold fX6_inner_321 at hf
  replace hf := ckE hf
  obtain ⟨c1, hf⟩ := hf
  refine nd_iast dX6_inner_321 k_s0 c1 ?_
  replace hf := bnE hf
  obtain ⟨h2, e_h2, hf⟩ := hf
  refine nd_hp e_h2 ?_
  refine nd_aload_n (j := 0) dX6_inner_322 rfl rfl ?_
  refine nd_iload (j := 1) dX6_inner_323 rfl ?_
  refine nd_iconst (v := 2) dX6_inner_325 (by decide) ?_
  refine nd_icmp_ne (tgt := 339) dX6_inner_326 (by decide) (fun c3 => ?_) (fun c3 => ?_)
  · replace hf := ifn c3 hf
    exact nd_loc [0, 2] rfl (tX6_inner_339 l w hfl F d r _ _ _ k_this k_this _ hf)
  · replace hf := ifp c3 hf
    refine nd_iload (j := 3) dX6_inner_329 rfl ?_
    refine nd_iload (j := 4) dX6_inner_331 rfl ?_
    replace hf := caE hf
    obtain ⟨v5, h4, e_h4, hf⟩ := hf
    refine nd_Si [vi x7, vr (some this)] (tX6_bytesOf l w hfl F d e_h4) rfl dX6_inner_333 mw_X6_bytesOf (Or.inl q1670) q1671 (by omega) (by omega) (Nat.le_of_ble_eq_true rfl) ?_
    refine nd_icmp_ne (tgt := 386) dX6_inner_336 (by decide) (fun c6 => ?_) (fun c6 => ?_)
    · replace hf := ifn c6 hf
      refine nd_iconst (v := 0) dX6_inner_386 (by decide) ?_
      refine nd_putZ (k := 49) (by decide) dX6_inner_387 k_this rfl (Nat.le_of_ble_eq_true rfl) (nd_flO q1389) rfl rfl rfl ?_
      replace hf := bnE hf
      obtain ⟨h7, e_h7, hf⟩ := hf
      refine nd_hp e_h7 ?_
      cases hf
      exact nd_vret dX6_inner_390
    · replace hf := ifp c6 hf
      exact nd_loc [0, 2] rfl (tX6_inner_339 l w hfl F d r _ _ _ k_this k_this _ hf)
set_option maxHeartbeats 4000000 in
theorem tX6_inner_263 (l : Launch) (w : Wd) (hfl : l.stackTraces = false) (F d : Nat) (r : Hp) (k_205 : Nat → Int32 → Int32 → Int32 → Int32 → Int32 → Hp → Option (Hp)) (hk_205 : ∀ (this : Nat) (x4 : Int32) (x5 : Int32) (x7 : Int32) (x8 : Int32) (x9 : Int32) (k_this : nd_Kd this = 5) (h : Hp), k_205 this x4 x5 x7 x8 x9 h = some r → nd_V l w yX6_inner cX6_inner 10 none 4 84 (.inl none, r) h 205 [(0, vr (some this)), (4, vi x4), (5, vi x5), (7, vi x7), (8, vi x8), (9, vi x9)] []) (this : Nat) (x4 : Int32) (x5 : Int32) (x7 : Int32) (x8 : Int32) (x9 : Int32) (s0 : Nat) (s1 : Int32) (s2 : Int32) (k_this : nd_Kd this = 5) (k_s0 : nd_Kd s0 = 5) (h : Hp) (hf : fX6_inner_263 F d k_205 this x4 x5 x7 x8 x9 s0 s1 s2 h = some r) : nd_V l w yX6_inner cX6_inner 10 none 4 84 (.inl none, r) h 263 [(0, vr (some this)), (4, vi x4), (5, vi x5), (7, vi x7), (8, vi x8), (9, vi x9)] [vi s2, vi s1, vr (some s0)] := by
  unfold fX6_inner_263 at hf
  refine nd_iadd dX6_inner_263 ?_
  refine nd_putN (k := 35) dX6_inner_264 k_s0 rfl (Nat.le_of_ble_eq_true rfl) (nd_flO q1375) rfl rfl rfl ?_
  replace hf := bnE hf
  obtain ⟨h1, e_h1, hf⟩ := hf
  refine nd_hp e_h1 ?_
  refine nd_aload_n (j := 0) dX6_inner_267 rfl rfl ?_
  refine nd_dup dX6_inner_268 rfl ?_
  refine nd_getI (k := 47) dX6_inner_269 k_this rfl (Nat.le_of_ble_eq_true rfl) (nd_flO q1387) rfl ?_
  refine nd_iconst (v := 1) dX6_inner_272 (by decide) ?_
  refine nd_iadd dX6_inner_273 ?_
  refine nd_putN (k := 47) dX6_inner_274 k_this rfl (Nat.le_of_ble_eq_true rfl) (nd_flO q1387) rfl rfl rfl ?_
  replace hf := bnE hf
  obtain ⟨h2, e_h2, hf⟩ := hf
  refine nd_hp e_h2 ?_
  replace hf := bnE hf
  obtain ⟨v3, e_v3, hf⟩ := hf
  refine nd_iinc (v := v3) (j := 5) [(9, vi v3), (0, vr (some this)), (4, vi x4), (5, vi x5), (7, vi x7), (8, vi x8)] dX6_inner_277 rfl (by rw [e_v3]; rfl) (Nat.le_of_ble_eq_true rfl) rfl ?_
  refine nd_goto (tgt := 205) dX6_inner_280 (by decide) ?_
  exact nd_loc [1, 2, 3, 4, 5, 0] rfl (hk_205 _ _ _ _ _ _ k_this _ hf)
set_option maxHeartbeats 4000000 in
theorem tX6_inner_205 (l : Launch) (w : Wd) (hfl : l.stackTraces = false) (F d : Nat) (r : Hp) : ∀ (n : Nat) (this : Nat) (x4 : Int32) (x5 : Int32) (x7 : Int32) (x8 : Int32) (x9 : Int32) (k_this : nd_Kd this = 5) (h : Hp), fX6_inner_205 F d n this x4 x5 x7 x8 x9 h = some r → nd_V l w yX6_inner cX6_inner 10 none 4 84 (.inl none, r) h 205 [(0, vr (some this)), (4, vi x4), (5, vi x5), (7, vi x7), (8, vi x8), (9, vi x9)] [] := by
  intro n
  induction n with
  | zero => intro _ _ _ _ _ _ _ _ hf; cases hf
  | succ n ih =>
    intro this x4 x5 x7 x8 x9 k_this h hf
    unfold fX6_inner_205 at hf
    refine nd_iload (j := 5) dX6_inner_205 rfl ?_
    refine nd_iload (j := 3) dX6_inner_207 rfl ?_
    refine nd_icmp_ge (tgt := 283) dX6_inner_209 (by decide) (fun c1 => ?_) (fun c1 => ?_)
    · replace hf := ifp c1 hf
      refine nd_aload_n (j := 0) dX6_inner_283 rfl rfl ?_
      refine nd_getP (k := 37) dX6_inner_284 k_this rfl (Nat.le_of_ble_eq_true rfl) (nd_flO q1377) rfl (fun ok2 => ?_)
      replace hf := nnE hf
      obtain ⟨a3, e_a3, hf⟩ := hf
      refine nd_topr e_a3.symm ?_
      have k_a3 : nd_Kd a3 = 20 := nd_c1 (ok2 a3 e_a3)
      refine nd_iload (j := 2) dX6_inner_287 rfl ?_
      refine nd_iload (j := 1) dX6_inner_289 rfl ?_
      refine nd_iconst (v := 2) dX6_inner_291 (by decide) ?_
      refine nd_icmp_ne (tgt := 300) dX6_inner_292 (by decide) (fun c4 => ?_) (fun c4 => ?_)
      · replace hf := ifn c4 hf
        refine nd_iload (j := 1) dX6_inner_300 rfl ?_
        refine nd_iconst (v := 4) dX6_inner_302 (by decide) ?_
        refine nd_icmp_ne (tgt := 311) dX6_inner_303 (by decide) (fun c5 => ?_) (fun c5 => ?_)
        · replace hf := ifn c5 hf
          refine nd_iload (j := 4) dX6_inner_311 rfl ?_
          refine nd_if_le (tgt := 320) dX6_inner_313 (by decide) (fun c6 => ?_) (fun c6 => ?_)
          · replace hf := ifp c6 hf
            refine nd_iconst (v := 0) dX6_inner_320 (by decide) ?_
            exact nd_loc [0, 1, 2, 3, 4] rfl (tX6_inner_321 l w hfl F d r _ _ _ _ _ _ _ _ k_this k_a3 _ hf)
          · replace hf := ifn c6 hf
            refine nd_iconst (v := 1) dX6_inner_316 (by decide) ?_
            refine nd_goto (tgt := 321) dX6_inner_317 (by decide) ?_
            exact nd_loc [0, 1, 2, 3, 4] rfl (tX6_inner_321 l w hfl F d r _ _ _ _ _ _ _ _ k_this k_a3 _ hf)
        · replace hf := ifp c5 hf
          refine nd_iload (j := 3) dX6_inner_306 rfl ?_
          refine nd_goto (tgt := 321) dX6_inner_308 (by decide) ?_
          exact nd_loc [0, 1, 2, 3, 4] rfl (tX6_inner_321 l w hfl F d r _ _ _ _ _ _ _ _ k_this k_a3 _ hf)
      · replace hf := ifp c4 hf
        refine nd_iload (j := 4) dX6_inner_295 rfl ?_
        refine nd_goto (tgt := 321) dX6_inner_297 (by decide) ?_
        exact nd_loc [0, 1, 2, 3, 4] rfl (tX6_inner_321 l w hfl F d r _ _ _ _ _ _ _ _ k_this k_a3 _ hf)
    · replace hf := ifn c1 hf
      refine nd_iload (j := 4) dX6_inner_212 rfl ?_
      refine nd_bipush (v := 8) dX6_inner_214 (by decide) ?_
      refine nd_ishl dX6_inner_216 ?_
      refine nd_aload_n (j := 0) dX6_inner_217 rfl rfl ?_
      refine nd_getP (k := 32) dX6_inner_218 k_this rfl (Nat.le_of_ble_eq_true rfl) (nd_flO q1372) rfl (fun ok7 => ?_)
      replace hf := nnE hf
      obtain ⟨a8, e_a8, hf⟩ := hf
      refine nd_topr e_a8.symm ?_
      have k_a8 : nd_Kd a8 = 20 := nd_c1 (ok7 a8 e_a8)
      refine nd_aload_n (j := 0) dX6_inner_221 rfl rfl ?_
      refine nd_getI (k := 47) dX6_inner_222 k_this rfl (Nat.le_of_ble_eq_true rfl) (nd_flO q1387) rfl ?_
      replace hf := ckE hf
      obtain ⟨c9, hf⟩ := hf
      refine nd_iald dX6_inner_225 k_a8 c9 ?_
      refine nd_ior dX6_inner_226 ?_
      replace hf := bnE hf
      obtain ⟨v10, e_v10, hf⟩ := hf
      refine nd_top e_v10 ?_
      refine nd_istore [(8, vi v10), (0, vr (some this)), (4, vi x4), (5, vi x5), (7, vi x7), (9, vi x9)] dX6_inner_227 (Nat.le_of_ble_eq_true rfl) rfl ?_
      refine nd_aload_n (j := 1) dX6_inner_229 rfl rfl ?_
      refine nd_getP (k := 43) dX6_inner_230 k_this rfl (Nat.le_of_ble_eq_true rfl) (nd_flO q1383) rfl (fun ok11 => ?_)
      replace hf := nnE hf
      obtain ⟨a12, e_a12, hf⟩ := hf
      refine nd_topr e_a12.symm ?_
      have k_a12 : nd_Kd a12 = 20 := nd_c1 (ok11 a12 e_a12)
      refine nd_aload_n (j := 1) dX6_inner_233 rfl rfl ?_
      refine nd_getI (k := 35) dX6_inner_234 k_this rfl (Nat.le_of_ble_eq_true rfl) (nd_flO q1375) rfl ?_
      refine nd_aload_n (j := 1) dX6_inner_237 rfl rfl ?_
      refine nd_getP (k := 32) dX6_inner_238 k_this rfl (Nat.le_of_ble_eq_true rfl) (nd_flO q1372) rfl (fun ok13 => ?_)
      replace hf := nnE hf
      obtain ⟨a14, e_a14, hf⟩ := hf
      refine nd_topr e_a14.symm ?_
      have k_a14 : nd_Kd a14 = 20 := nd_c1 (ok13 a14 e_a14)
      refine nd_aload_n (j := 1) dX6_inner_241 rfl rfl ?_
      refine nd_getI (k := 47) dX6_inner_242 k_this rfl (Nat.le_of_ble_eq_true rfl) (nd_flO q1387) rfl ?_
      replace hf := ckE hf
      obtain ⟨c15, hf⟩ := hf
      refine nd_iald dX6_inner_245 k_a14 c15 ?_
      replace hf := ckE hf
      obtain ⟨c16, hf⟩ := hf
      refine nd_iast dX6_inner_246 k_a12 c16 ?_
      replace hf := bnE hf
      obtain ⟨h17, e_h17, hf⟩ := hf
      refine nd_hp e_h17 ?_
      refine nd_aload_n (j := 1) dX6_inner_247 rfl rfl ?_
      refine nd_dup dX6_inner_248 rfl ?_
      refine nd_getI (k := 35) dX6_inner_249 k_this rfl (Nat.le_of_ble_eq_true rfl) (nd_flO q1375) rfl ?_
      refine nd_iload (j := 2) dX6_inner_252 rfl ?_
      refine nd_iconst (v := 4) dX6_inner_254 (by decide) ?_
      refine nd_icmp_ne (tgt := 262) dX6_inner_255 (by decide) (fun c18 => ?_) (fun c18 => ?_)
      · replace hf := ifn c18 hf
        refine nd_iconst (v := 0) dX6_inner_262 (by decide) ?_
        exact nd_loc [1, 2, 3, 4, 0, 5] rfl (tX6_inner_263 l w hfl F d r (fX6_inner_205 F d n) ih _ _ _ _ _ _ _ _ _ k_this k_this _ hf)
      · replace hf := ifp c18 hf
        refine nd_iconst (v := 1) dX6_inner_258 (by decide) ?_
        refine nd_goto (tgt := 263) dX6_inner_259 (by decide) ?_
        exact nd_loc [1, 2, 3, 4, 0, 5] rfl (tX6_inner_263 l w hfl F d r (fX6_inner_205 F d n) ih _ _ _ _ _ _ _ _ _ k_this k_this _ hf)
set_option maxHeartbeats 4000000 in
theorem tX6_inner_200 (l : Launch) (w : Wd) (hfl : l.stackTraces = false) (F d : Nat) (r : Hp) (this : Nat) (x4 : Int32) (x5 : Int32) (x7 : Int32) (s0 : Int32) (k_this : nd_Kd this = 5) (h : Hp) (hf : fX6_inner_200 F d this x4 x5 x7 s0 h = some r) : nd_V l w yX6_inner cX6_inner 10 none 4 84 (.inl none, r) h 200 [(0, vr (some this)), (4, vi x4), (5, vi x5), (7, vi x7)] [vi s0] := by
  unfold fX6_inner_200 at hf
  refine nd_istore [(8, vi s0), (0, vr (some this)), (4, vi x4), (5, vi x5), (7, vi x7)] dX6_inner_200 (Nat.le_of_ble_eq_true rfl) rfl ?_
  refine nd_iconst (v := 0) dX6_inner_202 (by decide) ?_
  refine nd_istore [(9, vi 0), (8, vi s0), (0, vr (some this)), (4, vi x4), (5, vi x5), (7, vi x7)] dX6_inner_203 (Nat.le_of_ble_eq_true rfl) rfl ?_
  exact nd_loc [2, 3, 4, 5, 1, 0] rfl (tX6_inner_205 l w hfl F d r F _ _ _ _ _ _ k_this _ hf)
set_option maxHeartbeats 4000000 in
theorem tX6_inner_199 (l : Launch) (w : Wd) (hfl : l.stackTraces = false) (F d : Nat) (r : Hp) (this : Nat) (x4 : Int32) (x5 : Int32) (x7 : Int32) (k_this : nd_Kd this = 5) (h : Hp) (hf : fX6_inner_199 F d this x4 x5 x7 h = some r) : nd_V l w yX6_inner cX6_inner 10 none 4 84 (.inl none, r) h 199 [(0, vr (some this)), (4, vi x4), (5, vi x5), (7, vi x7)] [] := by
  unfold fX6_inner_199 at hf
  refine nd_iconst (v := 0) dX6_inner_199 (by decide) ?_
  exact nd_loc [0, 1, 2, 3] rfl (tX6_inner_200 l w hfl F d r _ _ _ _ _ k_this _ hf)
set_option maxHeartbeats 4000000 in
theorem tX6_inner_156 (l : Launch) (w : Wd) (hfl : l.stackTraces = false) (F d : Nat) (r : Hp) (this : Nat) (x4 : Int32) (x5 : Int32) (x6 : Int32) (x7 : Int32) (k_this : nd_Kd this = 5) (h : Hp) (hf : fX6_inner_156 F d this x4 x5 x6 x7 h = some r) : nd_V l w yX6_inner cX6_inner 10 none 4 84 (.inl none, r) h 156 [(0, vr (some this)), (4, vi x4), (5, vi x5), (6, vi x6), (7, vi x7)] [] := by
  unfold fX6_inner_156 at hf
  refine nd_aload_n (j := 0) dX6_inner_156 rfl rfl ?_
  refine nd_getI (k := 49) dX6_inner_157 k_this rfl (Nat.le_of_ble_eq_true rfl) (nd_flO q1389) rfl ?_
  refine nd_if_eq (tgt := 174) dX6_inner_160 (by decide) (fun c1 => ?_) (fun c1 => ?_)
  · replace hf := ifp c1 hf
    cases hf
    exact nd_vret dX6_inner_174
  · replace hf := ifn c1 hf
    refine nd_iload (j := 3) dX6_inner_163 rfl ?_
    refine nd_if_ne (tgt := 174) dX6_inner_165 (by decide) (fun c2 => ?_) (fun c2 => ?_)
    · replace hf := ifn c2 hf
      cases hf
      exact nd_vret dX6_inner_174
    · replace hf := ifp c2 hf
      refine nd_iload (j := 1) dX6_inner_168 rfl ?_
      refine nd_iconst (v := 5) dX6_inner_170 (by decide) ?_
      refine nd_icmp_ne (tgt := 175) dX6_inner_171 (by decide) (fun c3 => ?_) (fun c3 => ?_)
      · replace hf := ifn c3 hf
        refine nd_iload (j := 1) dX6_inner_175 rfl ?_
        refine nd_iconst (v := 2) dX6_inner_177 (by decide) ?_
        refine nd_icmp_ne (tgt := 199) dX6_inner_178 (by decide) (fun c4 => ?_) (fun c4 => ?_)
        · replace hf := ifn c4 hf
          exact nd_loc [0, 1, 2, 4] rfl (tX6_inner_199 l w hfl F d r _ _ _ _ k_this _ hf)
        · replace hf := ifp c4 hf
          refine nd_aload_n (j := 0) dX6_inner_181 rfl rfl ?_
          refine nd_getP (k := 32) dX6_inner_182 k_this rfl (Nat.le_of_ble_eq_true rfl) (nd_flO q1372) rfl (fun ok5 => ?_)
          replace hf := nnE hf
          obtain ⟨a6, e_a6, hf⟩ := hf
          refine nd_topr e_a6.symm ?_
          have k_a6 : nd_Kd a6 = 20 := nd_c1 (ok5 a6 e_a6)
          refine nd_aload_n (j := 0) dX6_inner_185 rfl rfl ?_
          refine nd_getI (k := 47) dX6_inner_186 k_this rfl (Nat.le_of_ble_eq_true rfl) (nd_flO q1387) rfl ?_
          replace hf := ckE hf
          obtain ⟨c7, hf⟩ := hf
          refine nd_iald dX6_inner_189 k_a6 c7 ?_
          refine nd_bipush (v := 127) dX6_inner_190 (by decide) ?_
          refine nd_icmp_le (tgt := 199) dX6_inner_192 (by decide) (fun c8 => ?_) (fun c8 => ?_)
          · replace hf := ifp c8 hf
            exact nd_loc [0, 1, 2, 4] rfl (tX6_inner_199 l w hfl F d r _ _ _ _ k_this _ hf)
          · replace hf := ifn c8 hf
            refine nd_iconst (v := (-1)) dX6_inner_195 (by decide) ?_
            refine nd_goto (tgt := 200) dX6_inner_196 (by decide) ?_
            exact nd_loc [0, 1, 2, 4] rfl (tX6_inner_200 l w hfl F d r _ _ _ _ _ k_this _ hf)
      · replace hf := ifp c3 hf
        cases hf
        exact nd_vret dX6_inner_174
set_option maxHeartbeats 4000000 in
theorem tX6_inner_151 (l : Launch) (w : Wd) (hfl : l.stackTraces = false) (F d : Nat) (r : Hp) (this : Nat) (x4 : Int32) (x5 : Int32) (x6 : Int32) (x7 : Int32) (k_this : nd_Kd this = 5) (h : Hp) (hf : fX6_inner_151 F d this x4 x5 x6 x7 h = some r) : nd_V l w yX6_inner cX6_inner 10 none 4 84 (.inl none, r) h 151 [(0, vr (some this)), (4, vi x4), (5, vi x5), (6, vi x6), (7, vi x7)] [] := by
  unfold fX6_inner_151 at hf
  refine nd_aload_n (j := 0) dX6_inner_151 rfl rfl ?_
  refine nd_iconst (v := 0) dX6_inner_152 (by decide) ?_
  refine nd_putZ (k := 49) (by decide) dX6_inner_153 k_this rfl (Nat.le_of_ble_eq_true rfl) (nd_flO q1389) rfl rfl rfl ?_
  replace hf := bnE hf
  obtain ⟨h1, e_h1, hf⟩ := hf
  refine nd_hp e_h1 ?_
  exact nd_loc [0, 1, 2, 3, 4] rfl (tX6_inner_156 l w hfl F d r _ _ _ _ _ k_this _ hf)
set_option maxHeartbeats 4000000 in
theorem tX6_inner_135 (l : Launch) (w : Wd) (hfl : l.stackTraces = false) (F d : Nat) (r : Hp) (this : Nat) (x4 : Int32) (x5 : Int32) (x6 : Int32) (x7 : Int32) (k_this : nd_Kd this = 5) (h : Hp) (hf : fX6_inner_135 F d this x4 x5 x6 x7 h = some r) : nd_V l w yX6_inner cX6_inner 10 none 4 84 (.inl none, r) h 135 [(0, vr (some this)), (4, vi x4), (5, vi x5), (6, vi x6), (7, vi x7)] [] := by
  unfold fX6_inner_135 at hf
  refine nd_iload (j := 1) dX6_inner_135 rfl ?_
  refine nd_iconst (v := 2) dX6_inner_137 (by decide) ?_
  refine nd_icmp_ne (tgt := 156) dX6_inner_138 (by decide) (fun c1 => ?_) (fun c1 => ?_)
  · replace hf := ifn c1 hf
    exact nd_loc [0, 1, 2, 3, 4] rfl (tX6_inner_156 l w hfl F d r _ _ _ _ _ k_this _ hf)
  · replace hf := ifp c1 hf
    refine nd_iload (j := 4) dX6_inner_141 rfl ?_
    refine nd_iconst (v := 1) dX6_inner_143 (by decide) ?_
    refine nd_iconst (v := 4) dX6_inner_144 (by decide) ?_
    replace hf := caE hf
    obtain ⟨v3, h2, e_h2, hf⟩ := hf
    refine nd_Si [] (tX6_in l w hfl F d e_h2) rfl dX6_inner_145 mw_X6_in (Or.inl q1542) q1543 (by omega) (by omega) (Nat.le_of_ble_eq_true rfl) ?_
    refine nd_if_ne (tgt := 156) dX6_inner_148 (by decide) (fun c4 => ?_) (fun c4 => ?_)
    · replace hf := ifn c4 hf
      exact nd_loc [0, 1, 2, 3, 4] rfl (tX6_inner_156 l w hfl F d r _ _ _ _ _ k_this _ hf)
    · replace hf := ifp c4 hf
      exact nd_loc [0, 1, 2, 3, 4] rfl (tX6_inner_151 l w hfl F d r _ _ _ _ _ k_this _ hf)
set_option maxHeartbeats 4000000 in
theorem tX6_inner_123 (l : Launch) (w : Wd) (hfl : l.stackTraces = false) (F d : Nat) (r : Hp) (this : Nat) (x4 : Int32) (x5 : Int32) (x6 : Int32) (x7 : Int32) (k_this : nd_Kd this = 5) (h : Hp) (hf : fX6_inner_123 F d this x4 x5 x6 x7 h = some r) : nd_V l w yX6_inner cX6_inner 10 none 4 84 (.inl none, r) h 123 [(0, vr (some this)), (4, vi x4), (5, vi x5), (6, vi x6), (7, vi x7)] [] := by
  unfold fX6_inner_123 at hf
  refine nd_iload (j := 1) dX6_inner_123 rfl ?_
  refine nd_iconst (v := 1) dX6_inner_125 (by decide) ?_
  refine nd_icmp_ne (tgt := 135) dX6_inner_126 (by decide) (fun c1 => ?_) (fun c1 => ?_)
  · replace hf := ifn c1 hf
    exact nd_loc [0, 1, 2, 3, 4] rfl (tX6_inner_135 l w hfl F d r _ _ _ _ _ k_this _ hf)
  · replace hf := ifp c1 hf
    refine nd_iload (j := 4) dX6_inner_129 rfl ?_
    refine nd_iconst (v := 1) dX6_inner_131 (by decide) ?_
    refine nd_icmp_ne (tgt := 151) dX6_inner_132 (by decide) (fun c2 => ?_) (fun c2 => ?_)
    · replace hf := ifn c2 hf
      exact nd_loc [0, 1, 2, 3, 4] rfl (tX6_inner_151 l w hfl F d r _ _ _ _ _ k_this _ hf)
    · replace hf := ifp c2 hf
      exact nd_loc [0, 1, 2, 3, 4] rfl (tX6_inner_135 l w hfl F d r _ _ _ _ _ k_this _ hf)
set_option maxHeartbeats 4000000 in
theorem tX6_inner_110 (l : Launch) (w : Wd) (hfl : l.stackTraces = false) (F d : Nat) (r : Hp) (this : Nat) (x4 : Int32) (x5 : Int32) (x6 : Int32) (s0 : Int32) (k_this : nd_Kd this = 5) (h : Hp) (hf : fX6_inner_110 F d this x4 x5 x6 s0 h = some r) : nd_V l w yX6_inner cX6_inner 10 none 4 84 (.inl none, r) h 110 [(0, vr (some this)), (4, vi x4), (5, vi x5), (6, vi x6)] [vi s0] := by
  unfold fX6_inner_110 at hf
  refine nd_istore [(7, vi s0), (0, vr (some this)), (4, vi x4), (5, vi x5), (6, vi x6)] dX6_inner_110 (Nat.le_of_ble_eq_true rfl) rfl ?_
  refine nd_iload (j := 2) dX6_inner_112 rfl ?_
  refine nd_iconst (v := 5) dX6_inner_114 (by decide) ?_
  refine nd_icmp_ne (tgt := 123) dX6_inner_115 (by decide) (fun c1 => ?_) (fun c1 => ?_)
  · replace hf := ifn c1 hf
    exact nd_loc [1, 2, 3, 4, 0] rfl (tX6_inner_123 l w hfl F d r _ _ _ _ _ k_this _ hf)
  · replace hf := ifp c1 hf
    refine nd_iload (j := 0) dX6_inner_118 rfl ?_
    refine nd_if_ne (tgt := 151) dX6_inner_120 (by decide) (fun c2 => ?_) (fun c2 => ?_)
    · replace hf := ifn c2 hf
      exact nd_loc [1, 2, 3, 4, 0] rfl (tX6_inner_151 l w hfl F d r _ _ _ _ _ k_this _ hf)
    · replace hf := ifp c2 hf
      exact nd_loc [1, 2, 3, 4, 0] rfl (tX6_inner_123 l w hfl F d r _ _ _ _ _ k_this _ hf)
set_option maxHeartbeats 4000000 in
theorem tX6_inner_109 (l : Launch) (w : Wd) (hfl : l.stackTraces = false) (F d : Nat) (r : Hp) (this : Nat) (x4 : Int32) (x5 : Int32) (x6 : Int32) (k_this : nd_Kd this = 5) (h : Hp) (hf : fX6_inner_109 F d this x4 x5 x6 h = some r) : nd_V l w yX6_inner cX6_inner 10 none 4 84 (.inl none, r) h 109 [(0, vr (some this)), (4, vi x4), (5, vi x5), (6, vi x6)] [] := by
  unfold fX6_inner_109 at hf
  refine nd_iconst (v := 0) dX6_inner_109 (by decide) ?_
  exact nd_loc [0, 1, 2, 3] rfl (tX6_inner_110 l w hfl F d r _ _ _ _ _ k_this _ hf)
set_option maxHeartbeats 4000000 in
theorem tX6_inner_89 (l : Launch) (w : Wd) (hfl : l.stackTraces = false) (F d : Nat) (r : Hp) (this : Nat) (x4 : Int32) (x5 : Int32) (x6 : Int32) (k_this : nd_Kd this = 5) (h : Hp) (hf : fX6_inner_89 F d this x4 x5 x6 h = some r) : nd_V l w yX6_inner cX6_inner 10 none 4 84 (.inl none, r) h 89 [(0, vr (some this)), (4, vi x4), (5, vi x5), (6, vi x6)] [] := by
  unfold fX6_inner_89 at hf
  refine nd_aload_n (j := 0) dX6_inner_89 rfl rfl ?_
  refine nd_getI (k := 49) dX6_inner_90 k_this rfl (Nat.le_of_ble_eq_true rfl) (nd_flO q1389) rfl ?_
  refine nd_if_eq (tgt := 109) dX6_inner_93 (by decide) (fun c1 => ?_) (fun c1 => ?_)
  · replace hf := ifp c1 hf
    exact nd_loc [0, 1, 2, 3] rfl (tX6_inner_109 l w hfl F d r _ _ _ _ k_this _ hf)
  · replace hf := ifn c1 hf
    refine nd_iload (j := 3) dX6_inner_96 rfl ?_
    refine nd_if_ne (tgt := 109) dX6_inner_98 (by decide) (fun c2 => ?_) (fun c2 => ?_)
    · replace hf := ifn c2 hf
      exact nd_loc [0, 1, 2, 3] rfl (tX6_inner_109 l w hfl F d r _ _ _ _ k_this _ hf)
    · replace hf := ifp c2 hf
      refine nd_aload_n (j := 0) dX6_inner_101 rfl rfl ?_
      refine nd_iconst (v := 0) dX6_inner_102 (by decide) ?_
      replace hf := caE hf
      obtain ⟨v4, h3, e_h3, hf⟩ := hf
      refine nd_Vi [] (tX6_length l w hfl F d k_this e_h3) rfl dX6_inner_103 mw_X6_length (Or.inl q1651) k_this rfl q1653 qs54 (by omega) (by omega) (Nat.le_of_ble_eq_true rfl) ?_
      refine nd_goto (tgt := 110) dX6_inner_106 (by decide) ?_
      exact nd_loc [0, 1, 2, 3] rfl (tX6_inner_110 l w hfl F d r _ _ _ _ _ k_this _ hf)
set_option maxHeartbeats 4000000 in
theorem tX6_inner_69 (l : Launch) (w : Wd) (hfl : l.stackTraces = false) (F d : Nat) (r : Hp) (this : Nat) (x4 : Int32) (x5 : Int32) (s0 : Int32) (k_this : nd_Kd this = 5) (h : Hp) (hf : fX6_inner_69 F d this x4 x5 s0 h = some r) : nd_V l w yX6_inner cX6_inner 10 none 4 84 (.inl none, r) h 69 [(0, vr (some this)), (4, vi x4), (5, vi x5)] [vi s0] := by
  unfold fX6_inner_69 at hf
  refine nd_istore [(6, vi s0), (0, vr (some this)), (4, vi x4), (5, vi x5)] dX6_inner_69 (Nat.le_of_ble_eq_true rfl) rfl ?_
  refine nd_aload_n (j := 1) dX6_inner_71 rfl rfl ?_
  refine nd_getI (k := 49) dX6_inner_72 k_this rfl (Nat.le_of_ble_eq_true rfl) (nd_flO q1389) rfl ?_
  refine nd_if_eq (tgt := 89) dX6_inner_75 (by decide) (fun c1 => ?_) (fun c1 => ?_)
  · replace hf := ifp c1 hf
    exact nd_loc [1, 2, 3, 0] rfl (tX6_inner_89 l w hfl F d r _ _ _ _ k_this _ hf)
  · replace hf := ifn c1 hf
    refine nd_iload (j := 0) dX6_inner_78 rfl ?_
    refine nd_if_eq (tgt := 89) dX6_inner_80 (by decide) (fun c2 => ?_) (fun c2 => ?_)
    · replace hf := ifp c2 hf
      exact nd_loc [1, 2, 3, 0] rfl (tX6_inner_89 l w hfl F d r _ _ _ _ k_this _ hf)
    · replace hf := ifn c2 hf
      refine nd_aload_n (j := 1) dX6_inner_83 rfl rfl ?_
      refine nd_iload (j := 3) dX6_inner_84 rfl ?_
      replace hf := cvE hf
      obtain ⟨h3, e_h3, hf⟩ := hf
      refine nd_Vv [] (tX6_enter l w hfl F d k_this e_h3) rfl dX6_inner_86 mw_X6_enter (Or.inl q1647) k_this rfl q1649 qs53 (by omega) (by omega) (Nat.le_of_ble_eq_true rfl) ?_
      exact nd_loc [1, 2, 3, 0] rfl (tX6_inner_89 l w hfl F d r _ _ _ _ k_this _ hf)
set_option maxHeartbeats 4000000 in
theorem tX6_inner_64 (l : Launch) (w : Wd) (hfl : l.stackTraces = false) (F d : Nat) (r : Hp) (this : Nat) (x4 : Int32) (x5 : Int32) (k_this : nd_Kd this = 5) (h : Hp) (hf : fX6_inner_64 F d this x4 x5 h = some r) : nd_V l w yX6_inner cX6_inner 10 none 4 84 (.inl none, r) h 64 [(0, vr (some this)), (4, vi x4), (5, vi x5)] [] := by
  unfold fX6_inner_64 at hf
  refine nd_iconst (v := 1) dX6_inner_64 (by decide) ?_
  refine nd_goto (tgt := 69) dX6_inner_65 (by decide) ?_
  exact nd_loc [0, 1, 2] rfl (tX6_inner_69 l w hfl F d r _ _ _ _ k_this _ hf)
set_option maxHeartbeats 4000000 in
theorem tX6_inner_48 (l : Launch) (w : Wd) (hfl : l.stackTraces = false) (F d : Nat) (r : Hp) (this : Nat) (x4 : Int32) (s0 : Int32) (k_this : nd_Kd this = 5) (h : Hp) (hf : fX6_inner_48 F d this x4 s0 h = some r) : nd_V l w yX6_inner cX6_inner 10 none 4 84 (.inl none, r) h 48 [(0, vr (some this)), (4, vi x4)] [vi s0] := by
  unfold fX6_inner_48 at hf
  refine nd_istore [(5, vi s0), (0, vr (some this)), (4, vi x4)] dX6_inner_48 (Nat.le_of_ble_eq_true rfl) rfl ?_
  refine nd_iload (j := 2) dX6_inner_50 rfl ?_
  refine nd_bipush (v := 6) dX6_inner_52 (by decide) ?_
  refine nd_icmp_eq (tgt := 64) dX6_inner_54 (by decide) (fun c1 => ?_) (fun c1 => ?_)
  · replace hf := ifp c1 hf
    exact nd_loc [1, 2, 0] rfl (tX6_inner_64 l w hfl F d r _ _ _ k_this _ hf)
  · replace hf := ifn c1 hf
    refine nd_iload (j := 2) dX6_inner_57 rfl ?_
    refine nd_bipush (v := 7) dX6_inner_59 (by decide) ?_
    refine nd_icmp_ne (tgt := 68) dX6_inner_61 (by decide) (fun c2 => ?_) (fun c2 => ?_)
    · replace hf := ifn c2 hf
      refine nd_iconst (v := 0) dX6_inner_68 (by decide) ?_
      exact nd_loc [1, 2, 0] rfl (tX6_inner_69 l w hfl F d r _ _ _ _ k_this _ hf)
    · replace hf := ifp c2 hf
      exact nd_loc [1, 2, 0] rfl (tX6_inner_64 l w hfl F d r _ _ _ k_this _ hf)
set_option maxHeartbeats 4000000 in
theorem tX6_inner_29 (l : Launch) (w : Wd) (hfl : l.stackTraces = false) (F d : Nat) (r : Hp) (this : Nat) (x1 : Int32) (x2 : Int32) (x3 : Int32) (x4 : Int32) (k_this : nd_Kd this = 5) (h : Hp) (hf : fX6_inner_29 F d this x1 x2 x3 x4 h = some r) : nd_V l w yX6_inner cX6_inner 10 none 4 84 (.inl none, r) h 29 [(0, vr (some this)), (1, vi x1), (2, vi x2), (3, vi x3), (4, vi x4)] [] := by
  unfold fX6_inner_29 at hf
  refine nd_aload_n (j := 0) dX6_inner_29 rfl rfl ?_
  refine nd_getI (k := 49) dX6_inner_30 k_this rfl (Nat.le_of_ble_eq_true rfl) (nd_flO q1389) rfl ?_
  refine nd_if_eq (tgt := 47) dX6_inner_33 (by decide) (fun c1 => ?_) (fun c1 => ?_)
  · replace hf := ifp c1 hf
    refine nd_iconst (v := 0) dX6_inner_47 (by decide) ?_
    exact nd_loc [0, 4] rfl (tX6_inner_48 l w hfl F d r _ _ _ k_this _ hf)
  · replace hf := ifn c1 hf
    refine nd_aload_n (j := 0) dX6_inner_36 rfl rfl ?_
    refine nd_iload_n (j := 1) dX6_inner_37 rfl rfl ?_
    refine nd_iload_n (j := 2) dX6_inner_38 rfl rfl ?_
    refine nd_iload_n (j := 3) dX6_inner_39 rfl rfl ?_
    refine nd_iconst (v := 0) dX6_inner_40 (by decide) ?_
    replace hf := caE hf
    obtain ⟨v3, h2, e_h2, hf⟩ := hf
    refine nd_Vi [] (tX6_adds l w hfl F d k_this e_h2) rfl dX6_inner_41 mw_X6_adds (Or.inl q1662) k_this rfl q1664 qs56 (by omega) (by omega) (Nat.le_of_ble_eq_true rfl) ?_
    refine nd_goto (tgt := 48) dX6_inner_44 (by decide) ?_
    exact nd_loc [0, 4] rfl (tX6_inner_48 l w hfl F d r _ _ _ k_this _ hf)
set_option maxHeartbeats 4000000 in
theorem tX6_inner (l : Launch) (w : Wd) (hfl : l.stackTraces = false) (F d : Nat) {this : Nat} {p0 : Int32} {p1 : Int32} {p2 : Int32} (k_this : nd_Kd this = 5) {h : Hp} {r : Hp} (hf : fX6_inner F d this p0 p1 p2 h = some r) : nd_C l w yX6_inner cX6_inner 10 none 4 84 [vr (some this), vi p0, vi p1, vi p2] h (.inl none, r) := by
  refine nd_start (as := [vr (some this), vi p0, vi p1, vi p2]) hfl (by decide) (Nat.le_of_ble_eq_true rfl) ?_
  unfold fX6_inner at hf
  refine nd_eqL (L' := [(0, vr (some this)), (1, vi p0), (2, vi p1), (3, vi p2)]) rfl ?_
  refine nd_aload_n (j := 0) dX6_inner_0 rfl rfl ?_
  refine nd_getP (k := 11) dX6_inner_1 k_this rfl (Nat.le_of_ble_eq_true rfl) (nd_flO q1351) rfl (fun ok1 => ?_)
  replace hf := nnE hf
  obtain ⟨a2, e_a2, hf⟩ := hf
  refine nd_topr e_a2.symm ?_
  have k_a2 : nd_Kd a2 = 20 := nd_c1 (ok1 a2 e_a2)
  refine nd_aload_n (j := 0) dX6_inner_4 rfl rfl ?_
  refine nd_getI (k := 23) dX6_inner_5 k_this rfl (Nat.le_of_ble_eq_true rfl) (nd_flO q1363) rfl ?_
  replace hf := ckE hf
  obtain ⟨c3, hf⟩ := hf
  refine nd_iald dX6_inner_8 k_a2 c3 ?_
  replace hf := bnE hf
  obtain ⟨v4, e_v4, hf⟩ := hf
  refine nd_top e_v4 ?_
  refine nd_istore [(4, vi v4), (0, vr (some this)), (1, vi p0), (2, vi p1), (3, vi p2)] dX6_inner_9 (Nat.le_of_ble_eq_true rfl) rfl ?_
  refine nd_aload_n (j := 1) dX6_inner_11 rfl rfl ?_
  replace hf := caE hf
  obtain ⟨v6, h5, e_h5, hf⟩ := hf
  refine nd_Vi [] (tX6_next l w hfl F d k_this e_h5) rfl dX6_inner_12 mw_X6_next (Or.inl q1639) k_this rfl q1641 qs51 (by omega) (by omega) (Nat.le_of_ble_eq_true rfl) ?_
  refine nd_aload_n (j := 1) dX6_inner_15 rfl rfl ?_
  refine nd_getP (k := 25) dX6_inner_16 k_this rfl (Nat.le_of_ble_eq_true rfl) (nd_flO q1365) rfl (fun ok7 => ?_)
  replace hf := nnE hf
  obtain ⟨a8, e_a8, hf⟩ := hf
  refine nd_topr e_a8.symm ?_
  have k_a8 : nd_Kd a8 = 20 := nd_c1 (ok7 a8 e_a8)
  refine nd_iconst (v := 0) dX6_inner_19 (by decide) ?_
  replace hf := ckE hf
  obtain ⟨c9, hf⟩ := hf
  refine nd_iald dX6_inner_20 k_a8 c9 ?_
  refine nd_icmp_eq (tgt := 29) dX6_inner_21 (by decide) (fun c10 => ?_) (fun c10 => ?_)
  · replace hf := ifp c10 hf
    exact nd_loc [1, 2, 3, 4, 0] rfl (tX6_inner_29 l w hfl F d r _ _ _ _ _ k_this _ hf)
  · replace hf := ifn c10 hf
    refine nd_aload_n (j := 1) dX6_inner_24 rfl rfl ?_
    refine nd_iconst (v := 0) dX6_inner_25 (by decide) ?_
    refine nd_putZ (k := 49) (by decide) dX6_inner_26 k_this rfl (Nat.le_of_ble_eq_true rfl) (nd_flO q1389) rfl rfl rfl ?_
    replace hf := bnE hf
    obtain ⟨h11, e_h11, hf⟩ := hf
    refine nd_hp e_h11 ?_
    exact nd_loc [1, 2, 3, 4, 0] rfl (tX6_inner_29 l w hfl F d r _ _ _ _ _ k_this _ hf)
def fX6_element_304 (F d : Nat) (this : Nat) (x4 : Int32) (x5 : Int32) (x6 : Int32) (h : Hp) : Option (Hp) :=
  if (gI h 649 this) = 0 then
  (some h)
  else
  (cv (fX6_inner F d this x4 x5 x6 h) fun h2 => (
  some h2))
def fX6_element_301 (F d : Nat) (k_12 : Nat → Int32 → Int32 → Int32 → Int32 → Hp → Option (Hp)) (this : Nat) (x4 : Int32) (x5 : Int32) (x6 : Int32) (x7 : Int32) (h : Hp) : Option (Hp) :=
  k_12 this x4 x5 x6 x7 h
def fX6_element_299 (F d : Nat) (k_12 : Nat → Int32 → Int32 → Int32 → Int32 → Hp → Option (Hp)) (this : Nat) (x5 : Int32) (x6 : Int32) (x7 : Int32) (s0 : Int32) (h : Hp) : Option (Hp) :=
  fX6_element_301 F d k_12 this s0 x5 x6 x7 h
def fX6_element_252 (F d : Nat) (k_12 : Nat → Int32 → Int32 → Int32 → Int32 → Hp → Option (Hp)) (this : Nat) (x4 : Int32) (x5 : Int32) (x6 : Int32) (x7 : Int32) (x10 : Int32) (s0 : Nat) (s1 : Int32) (h : Hp) : Option (Hp) :=
  ck (isB s1) (
  bn (sI h 649 s0 s1) fun h1 => (
  ca (fX6_adds F d this x4 x5 x6 x10 h1) fun v4 h3 => (
  if (gI h3 649 this) = 0 then
  (fX6_element_299 F d k_12 this v4 0 x7 x4 h3)
  else
  (nn (gP h3 620 this) fun a7 => (
  ck (inb ((6 * (gI h3 623 this)) + x10) (nd_Ln a7)) (
  fX6_element_299 F d k_12 this v4 0 x7 (gA h3 a7 (Int32.toNatClampNeg ((6 * (gI h3 623 this)) + x10))) h3))))))
def fX6_element_232 (F d : Nat) (k_12 : Nat → Int32 → Int32 → Int32 → Int32 → Hp → Option (Hp)) (this : Nat) (x4 : Int32) (x5 : Int32) (x6 : Int32) (x7 : Int32) (x10 : Int32) (h : Hp) : Option (Hp) :=
  nn (gP h 615 this) fun a2 => (
  ck (inb (gI h 623 this) (nd_Ln a2)) (
  if (gA h a2 (Int32.toNatClampNeg (gI h 623 this))) ≤ x10 then
  (fX6_element_252 F d k_12 this x4 x5 x6 x7 x10 this 0 h)
  else
  (fX6_element_252 F d k_12 this x4 x5 x6 x7 x10 this 1 h)))
def fX6_element_186 (F d : Nat) (k_12 : Nat → Int32 → Int32 → Int32 → Int32 → Hp → Option (Hp)) : Nat → Nat → Int32 → Int32 → Int32 → Int32 → Int32 → Int32 → Hp → Option (Hp)
  | 0, _, _, _, _, _, _, _, _ => none
  | n + 1, this, x4, x5, x6, x7, x9, x10, h =>
    nn (gP h 615 this) fun a2 => (
    ck (inb (gI h 623 this) (nd_Ln a2)) (
    if (gA h a2 (Int32.toNatClampNeg (gI h 623 this))) ≤ x10 then
    (fX6_element_232 F d k_12 this x4 x5 x6 x7 x10 h)
    else
    (nn (gP h 616 this) fun a6 => (
    nn (gP h 620 this) fun a8 => (
    ck (inb ((6 * (gI h 623 this)) + x10) (nd_Ln a8)) (
    ck (inb (gA h a8 (Int32.toNatClampNeg ((6 * (gI h 623 this)) + x10))) (nd_Ln a6)) (
    if ((gA h a6 (Int32.toNatClampNeg (gA h a8 (Int32.toNatClampNeg ((6 * (gI h 623 this)) + x10))))) &&& x9) = 0 then
    (bn (x10 + 1) fun v12 => (
    fX6_element_186 F d k_12 n this x4 x5 x6 x7 x9 v12 h))
    else
    (fX6_element_232 F d k_12 this x4 x5 x6 x7 x10 h))))))))
def fX6_element_181 (F d : Nat) (k_12 : Nat → Int32 → Int32 → Int32 → Int32 → Hp → Option (Hp)) (this : Nat) (x4 : Int32) (x5 : Int32) (x6 : Int32) (x7 : Int32) (s0 : Int32) (h : Hp) : Option (Hp) :=
  fX6_element_186 F d k_12 F this x4 x5 x6 x7 s0 0 h
def fX6_element_147 (F d : Nat) (k_12 : Nat → Int32 → Int32 → Int32 → Int32 → Hp → Option (Hp)) (this : Nat) (x4 : Int32) (x5 : Int32) (x6 : Int32) (s0 : Int32) (h : Hp) : Option (Hp) :=
  if s0 = 0 then
  (fX6_element_301 F d k_12 this x4 x5 x6 s0 h)
  else
  (ca (fX6_bound F d this h) fun v3 h2 => (
  if v3 ≤ (gI h 647 this) then
  (fX6_element_181 F d k_12 this x4 x5 x6 s0 0 h2)
  else
  (nn (gP h2 632 this) fun a6 => (
  ck (inb (gI h2 647 this) (nd_Ln a6)) (
  ca (fX6_bitOf F d (gA h2 a6 (Int32.toNatClampNeg (gI h2 647 this))) h2) fun v9 h8 => (
  fX6_element_181 F d k_12 this x4 x5 x6 s0 v9 h8))))))
def fX6_element_146 (F d : Nat) (k_12 : Nat → Int32 → Int32 → Int32 → Int32 → Hp → Option (Hp)) (this : Nat) (x4 : Int32) (x5 : Int32) (x6 : Int32) (h : Hp) : Option (Hp) :=
  fX6_element_147 F d k_12 this x4 x5 x6 0 h
def fX6_element_121 (F d : Nat) (k_12 : Nat → Int32 → Int32 → Int32 → Int32 → Hp → Option (Hp)) (this : Nat) (x4 : Int32) (x5 : Int32) (x6 : Int32) (h : Hp) : Option (Hp) :=
  if (gI h 649 this) = 0 then
  (fX6_element_146 F d k_12 this x4 x5 x6 h)
  else
  (nn (gP h 611 this) fun a3 => (
  ck (inb (gI h 623 this) (nd_Ln a3)) (
  if (gA h a3 (Int32.toNatClampNeg (gI h 623 this))) = 9 then
  (fX6_element_147 F d k_12 this x4 x5 x6 1 h)
  else
  (fX6_element_146 F d k_12 this x4 x5 x6 h))))
def fX6_element_115 (F d : Nat) (k_12 : Nat → Int32 → Int32 → Int32 → Int32 → Hp → Option (Hp)) (k_59 : Nat → Int32 → Int32 → Int32 → Int32 → Int32 → Hp → Option (Hp)) (this : Nat) (x4 : Int32) (x5 : Int32) (x6 : Int32) (x8 : Int32) (x9 : Int32) (h : Hp) : Option (Hp) :=
  bn (x9 + (-1)) fun v1 => (
  k_59 this x4 x5 x6 x8 v1 h)
def fX6_element_100 (F d : Nat) (k_12 : Nat → Int32 → Int32 → Int32 → Int32 → Hp → Option (Hp)) (k_59 : Nat → Int32 → Int32 → Int32 → Int32 → Int32 → Hp → Option (Hp)) (this : Nat) (x4 : Int32) (x5 : Int32) (x6 : Int32) (x8 : Int32) (x9 : Int32) (s0 : Nat) (s1 : Int32) (h : Hp) : Option (Hp) :=
  ck (isB s1) (
  bn (sI h 649 s0 s1) fun h1 => (
  if (gI h1 649 this) = 0 then
  (fX6_element_115 F d k_12 k_59 this x4 x5 x6 x8 x9 h1)
  else
  (cv (fX6_enter F d this (-1) h1) fun h4 => (
  fX6_element_115 F d k_12 k_59 this x4 x5 x6 x8 x9 h4))))
def fX6_element_99 (F d : Nat) (k_12 : Nat → Int32 → Int32 → Int32 → Int32 → Hp → Option (Hp)) (k_59 : Nat → Int32 → Int32 → Int32 → Int32 → Int32 → Hp → Option (Hp)) (this : Nat) (x4 : Int32) (x5 : Int32) (x6 : Int32) (x8 : Int32) (x9 : Int32) (s0 : Nat) (h : Hp) : Option (Hp) :=
  fX6_element_100 F d k_12 k_59 this x4 x5 x6 x8 x9 s0 0 h
def fX6_element_59 (F d : Nat) (k_12 : Nat → Int32 → Int32 → Int32 → Int32 → Hp → Option (Hp)) : Nat → Nat → Int32 → Int32 → Int32 → Int32 → Int32 → Hp → Option (Hp)
  | 0, _, _, _, _, _, _, _ => none
  | n + 1, this, x4, x5, x6, x8, x9, h =>
    if x9 < x8 then
    (fX6_element_121 F d k_12 this x4 x5 x6 h)
    else
    (if (gI h 649 this) = 0 then
    (fX6_element_121 F d k_12 this x4 x5 x6 h)
    else
    (ca (fX6_next F d this h) fun v4 h3 => (
    nn (gP h3 625 this) fun a6 => (
    ck (inb x9 (nd_Ln a6)) (
    if v4 = (gA h3 a6 (Int32.toNatClampNeg x9)) then
    (if (gI h3 649 this) = 0 then
    (fX6_element_99 F d k_12 (fX6_element_59 F d k_12 n) this x4 x5 x6 x8 x9 this h3)
    else
    (fX6_element_100 F d k_12 (fX6_element_59 F d k_12 n) this x4 x5 x6 x8 x9 this 1 h3))
    else
    (fX6_element_99 F d k_12 (fX6_element_59 F d k_12 n) this x4 x5 x6 x8 x9 this h3))))))
def fX6_element_49 (F d : Nat) (k_12 : Nat → Int32 → Int32 → Int32 → Int32 → Hp → Option (Hp)) (this : Nat) (x4 : Int32) (x5 : Int32) (x6 : Int32) (s0 : Int32) (h : Hp) : Option (Hp) :=
  bn ((gI h 624 this) - 1) fun v1 => (
  fX6_element_59 F d k_12 F this x4 x5 x6 s0 v1 h)
def fX6_element_12 (F d : Nat) : Nat → Nat → Int32 → Int32 → Int32 → Int32 → Hp → Option (Hp)
  | 0, _, _, _, _, _, _ => none
  | n + 1, this, x4, x5, x6, x7, h =>
    if x7 = 0 then
    (fX6_element_304 F d this x4 x5 x6 h)
    else
    (if (gI h 649 this) = 0 then
    (fX6_element_304 F d this x4 x5 x6 h)
    else
    (cv (fX6_unwrap F d this x4 h) fun h3 => (
    nn (gP h3 611 this) fun a6 => (
    ck (inb (gI h3 623 this) (nd_Ln a6)) (
    if (gA h3 a6 (Int32.toNatClampNeg (gI h3 623 this))) = 9 then
    (fX6_element_49 F d (fX6_element_12 F d n) this x4 x5 x6 0 h3)
    else
    (fX6_element_49 F d (fX6_element_12 F d n) this x4 x5 x6 1 h3))))))
def fX6_element (F d : Nat) (this : Nat) (p0 : Int32) (p1 : Int32) (p2 : Int32) (h : Hp) : Option (Hp) :=
  fX6_element_12 F d F this p0 p1 p2 1 h
theorem mw_X6_element : nd_MW yX6_element cX6_element 11 none 3 := ⟨q1638, q91, by decide, by decide, by decide +kernel⟩
set_option maxHeartbeats 4000000 in
theorem tX6_element_304 (l : Launch) (w : Wd) (hfl : l.stackTraces = false) (F d : Nat) (r : Hp) (this : Nat) (x4 : Int32) (x5 : Int32) (x6 : Int32) (k_this : nd_Kd this = 5) (h : Hp) (hf : fX6_element_304 F d this x4 x5 x6 h = some r) : nd_V l w yX6_element cX6_element 11 none 5 113 (.inl none, r) h 304 [(0, vr (some this)), (4, vi x4), (5, vi x5), (6, vi x6)] [] := by
  unfold fX6_element_304 at hf
  refine nd_aload_n (j := 0) dX6_element_304 rfl rfl ?_
  refine nd_getI (k := 49) dX6_element_305 k_this rfl (Nat.le_of_ble_eq_true rfl) (nd_flO q1389) rfl ?_
  refine nd_if_eq (tgt := 321) dX6_element_308 (by decide) (fun c1 => ?_) (fun c1 => ?_)
  · replace hf := ifp c1 hf
    cases hf
    exact nd_vret dX6_element_321
  · replace hf := ifn c1 hf
    refine nd_aload_n (j := 0) dX6_element_311 rfl rfl ?_
    refine nd_iload (j := 1) dX6_element_312 rfl ?_
    refine nd_iload (j := 2) dX6_element_314 rfl ?_
    refine nd_iload (j := 3) dX6_element_316 rfl ?_
    replace hf := cvE hf
    obtain ⟨h2, e_h2, hf⟩ := hf
    refine nd_Vv [] (tX6_inner l w hfl F d k_this e_h2) rfl dX6_element_318 mw_X6_inner (Or.inl q1666) k_this rfl q1668 qs57 (by omega) (by omega) (Nat.le_of_ble_eq_true rfl) ?_
    cases hf
    exact nd_vret dX6_element_321
set_option maxHeartbeats 4000000 in
theorem tX6_element_301 (l : Launch) (w : Wd) (hfl : l.stackTraces = false) (F d : Nat) (r : Hp) (k_12 : Nat → Int32 → Int32 → Int32 → Int32 → Hp → Option (Hp)) (hk_12 : ∀ (this : Nat) (x4 : Int32) (x5 : Int32) (x6 : Int32) (x7 : Int32) (k_this : nd_Kd this = 5) (h : Hp), k_12 this x4 x5 x6 x7 h = some r → nd_V l w yX6_element cX6_element 11 none 5 113 (.inl none, r) h 12 [(0, vr (some this)), (4, vi x4), (5, vi x5), (6, vi x6), (7, vi x7)] []) (this : Nat) (x4 : Int32) (x5 : Int32) (x6 : Int32) (x7 : Int32) (k_this : nd_Kd this = 5) (h : Hp) (hf : fX6_element_301 F d k_12 this x4 x5 x6 x7 h = some r) : nd_V l w yX6_element cX6_element 11 none 5 113 (.inl none, r) h 301 [(0, vr (some this)), (4, vi x4), (5, vi x5), (6, vi x6), (7, vi x7)] [] := by
  unfold fX6_element_301 at hf
  refine nd_goto (tgt := 12) dX6_element_301 (by decide) ?_
  exact nd_loc [0, 1, 2, 3, 4] rfl (hk_12 _ _ _ _ _ k_this _ hf)
set_option maxHeartbeats 4000000 in
theorem tX6_element_299 (l : Launch) (w : Wd) (hfl : l.stackTraces = false) (F d : Nat) (r : Hp) (k_12 : Nat → Int32 → Int32 → Int32 → Int32 → Hp → Option (Hp)) (hk_12 : ∀ (this : Nat) (x4 : Int32) (x5 : Int32) (x6 : Int32) (x7 : Int32) (k_this : nd_Kd this = 5) (h : Hp), k_12 this x4 x5 x6 x7 h = some r → nd_V l w yX6_element cX6_element 11 none 5 113 (.inl none, r) h 12 [(0, vr (some this)), (4, vi x4), (5, vi x5), (6, vi x6), (7, vi x7)] []) (this : Nat) (x5 : Int32) (x6 : Int32) (x7 : Int32) (s0 : Int32) (k_this : nd_Kd this = 5) (h : Hp) (hf : fX6_element_299 F d k_12 this x5 x6 x7 s0 h = some r) : nd_V l w yX6_element cX6_element 11 none 5 113 (.inl none, r) h 299 [(0, vr (some this)), (5, vi x5), (6, vi x6), (7, vi x7)] [vi s0] := by
  unfold fX6_element_299 at hf
  refine nd_istore [(4, vi s0), (0, vr (some this)), (5, vi x5), (6, vi x6), (7, vi x7)] dX6_element_299 (Nat.le_of_ble_eq_true rfl) rfl ?_
  exact nd_loc [1, 0, 2, 3, 4] rfl (tX6_element_301 l w hfl F d r k_12 hk_12 _ _ _ _ _ k_this _ hf)
set_option maxHeartbeats 4000000 in
theorem tX6_element_252 (l : Launch) (w : Wd) (hfl : l.stackTraces = false) (F d : Nat) (r : Hp) (k_12 : Nat → Int32 → Int32 → Int32 → Int32 → Hp → Option (Hp)) (hk_12 : ∀ (this : Nat) (x4 : Int32) (x5 : Int32) (x6 : Int32) (x7 : Int32) (k_this : nd_Kd this = 5) (h : Hp), k_12 this x4 x5 x6 x7 h = some r → nd_V l w yX6_element cX6_element 11 none 5 113 (.inl none, r) h 12 [(0, vr (some this)), (4, vi x4), (5, vi x5), (6, vi x6), (7, vi x7)] []) (this : Nat) (x4 : Int32) (x5 : Int32) (x6 : Int32) (x7 : Int32) (x10 : Int32) (s0 : Nat) (s1 : Int32) (k_this : nd_Kd this = 5) (k_s0 : nd_Kd s0 = 5) (h : Hp) (hf : fX6_element_252 F d k_12 this x4 x5 x6 x7 x10 s0 s1 h = some r) : nd_V l w yX6_element cX6_element 11 none 5 113 (.inl none, r) h 252 [(0, vr (some this)), (4, vi x4), (5, vi x5), (6, vi x6), (7, vi x7), (10, vi x10)] [vi s1, vr (some s0)] := by
  unfold fX6_element_252 at hf
  replace hf := ckE hf
  obtain ⟨c2, hf⟩ := hf
  refine nd_putZ (k := 49) c2 dX6_element_252 k_s0 rfl (Nat.le_of_ble_eq_true rfl) (nd_flO q1389) rfl rfl rfl ?_
  replace hf := bnE hf
  obtain ⟨h1, e_h1, hf⟩ := hf
  refine nd_hp e_h1 ?_
  refine nd_aload_n (j := 0) dX6_element_255 rfl rfl ?_
  refine nd_iload (j := 1) dX6_element_256 rfl ?_
  refine nd_iload (j := 2) dX6_element_258 rfl ?_
  refine nd_iload (j := 3) dX6_element_260 rfl ?_
  refine nd_iload (j := 5) dX6_element_262 rfl ?_
  replace hf := caE hf
  obtain ⟨v4, h3, e_h3, hf⟩ := hf
  refine nd_Vi [] (tX6_adds l w hfl F d k_this e_h3) rfl dX6_element_264 mw_X6_adds (Or.inl q1662) k_this rfl q1664 qs56 (by omega) (by omega) (Nat.le_of_ble_eq_true rfl) ?_
  refine nd_istore [(5, vi v4), (0, vr (some this)), (4, vi x4), (6, vi x6), (7, vi x7), (10, vi x10)] dX6_element_267 (Nat.le_of_ble_eq_true rfl) rfl ?_
  refine nd_iconst (v := 0) dX6_element_269 (by decide) ?_
  refine nd_istore [(6, vi 0), (5, vi v4), (0, vr (some this)), (4, vi x4), (7, vi x7), (10, vi x10)] dX6_element_270 (Nat.le_of_ble_eq_true rfl) rfl ?_
  refine nd_aload_n (j := 2) dX6_element_272 rfl rfl ?_
  refine nd_getI (k := 49) dX6_element_273 k_this rfl (Nat.le_of_ble_eq_true rfl) (nd_flO q1389) rfl ?_
  refine nd_if_eq (tgt := 297) dX6_element_276 (by decide) (fun c5 => ?_) (fun c5 => ?_)
  · replace hf := ifp c5 hf
    refine nd_iload (j := 3) dX6_element_297 rfl ?_
    exact nd_loc [2, 1, 0, 4] rfl (tX6_element_299 l w hfl F d r k_12 hk_12 _ _ _ _ _ k_this _ hf)
  · replace hf := ifn c5 hf
    refine nd_aload_n (j := 2) dX6_element_279 rfl rfl ?_
    refine nd_getP (k := 20) dX6_element_280 k_this rfl (Nat.le_of_ble_eq_true rfl) (nd_flO q1360) rfl (fun ok6 => ?_)
    replace hf := nnE hf
    obtain ⟨a7, e_a7, hf⟩ := hf
    refine nd_topr e_a7.symm ?_
    have k_a7 : nd_Kd a7 = 20 := nd_c1 (ok6 a7 e_a7)
    refine nd_bipush (v := 6) dX6_element_283 (by decide) ?_
    refine nd_aload_n (j := 2) dX6_element_285 rfl rfl ?_
    refine nd_getI (k := 23) dX6_element_286 k_this rfl (Nat.le_of_ble_eq_true rfl) (nd_flO q1363) rfl ?_
    refine nd_imul dX6_element_289 ?_
    refine nd_iload (j := 5) dX6_element_290 rfl ?_
    refine nd_iadd dX6_element_292 ?_
    replace hf := ckE hf
    obtain ⟨c8, hf⟩ := hf
    refine nd_iald dX6_element_293 k_a7 c8 ?_
    refine nd_goto (tgt := 299) dX6_element_294 (by decide) ?_
    exact nd_loc [2, 1, 0, 4] rfl (tX6_element_299 l w hfl F d r k_12 hk_12 _ _ _ _ _ k_this _ hf)
set_option maxHeartbeats 4000000 in
theorem tX6_element_232 (l : Launch) (w : Wd) (hfl : l.stackTraces = false) (F d : Nat) (r : Hp) (k_12 : Nat → Int32 → Int32 → Int32 → Int32 → Hp → Option (Hp)) (hk_12 : ∀ (this : Nat) (x4 : Int32) (x5 : Int32) (x6 : Int32) (x7 : Int32) (k_this : nd_Kd this = 5) (h : Hp), k_12 this x4 x5 x6 x7 h = some r → nd_V l w yX6_element cX6_element 11 none 5 113 (.inl none, r) h 12 [(0, vr (some this)), (4, vi x4), (5, vi x5), (6, vi x6), (7, vi x7)] []) (this : Nat) (x4 : Int32) (x5 : Int32) (x6 : Int32) (x7 : Int32) (x10 : Int32) (k_this : nd_Kd this = 5) (h : Hp) (hf : fX6_element_232 F d k_12 this x4 x5 x6 x7 x10 h = some r) : nd_V l w yX6_element cX6_element 11 none 5 113 (.inl none, r) h 232 [(0, vr (some this)), (4, vi x4), (5, vi x5), (6, vi x6), (7, vi x7), (10, vi x10)] [] := by
  unfold fX6_element_232 at hf
  refine nd_aload_n (j := 0) dX6_element_232 rfl rfl ?_
  refine nd_iload (j := 5) dX6_element_233 rfl ?_
  refine nd_aload_n (j := 0) dX6_element_235 rfl rfl ?_
  refine nd_getP (k := 15) dX6_element_236 k_this rfl (Nat.le_of_ble_eq_true rfl) (nd_flO q1355) rfl (fun ok1 => ?_)
  replace hf := nnE hf
  obtain ⟨a2, e_a2, hf⟩ := hf
  refine nd_topr e_a2.symm ?_
  have k_a2 : nd_Kd a2 = 20 := nd_c1 (ok1 a2 e_a2)
  refine nd_aload_n (j := 0) dX6_element_239 rfl rfl ?_
  refine nd_getI (k := 23) dX6_element_240 k_this rfl (Nat.le_of_ble_eq_true rfl) (nd_flO q1363) rfl ?_
  replace hf := ckE hf
  obtain ⟨c3, hf⟩ := hf
  refine nd_iald dX6_element_243 k_a2 c3 ?_
  refine nd_icmp_ge (tgt := 251) dX6_element_244 (by decide) (fun c4 => ?_) (fun c4 => ?_)
  · replace hf := ifp c4 hf
    refine nd_iconst (v := 0) dX6_element_251 (by decide) ?_
    exact nd_loc [0, 1, 2, 3, 4, 5] rfl (tX6_element_252 l w hfl F d r k_12 hk_12 _ _ _ _ _ _ _ _ k_this k_this _ hf)
  · replace hf := ifn c4 hf
    refine nd_iconst (v := 1) dX6_element_247 (by decide) ?_
    refine nd_goto (tgt := 252) dX6_element_248 (by decide) ?_
    exact nd_loc [0, 1, 2, 3, 4, 5] rfl (tX6_element_252 l w hfl F d r k_12 hk_12 _ _ _ _ _ _ _ _ k_this k_this _ hf)
set_option maxHeartbeats 4000000 in
theorem tX6_element_186 (l : Launch) (w : Wd) (hfl : l.stackTraces = false) (F d : Nat) (r : Hp) (k_12 : Nat → Int32 → Int32 → Int32 → Int32 → Hp → Option (Hp)) (hk_12 : ∀ (this : Nat) (x4 : Int32) (x5 : Int32) (x6 : Int32) (x7 : Int32) (k_this : nd_Kd this = 5) (h : Hp), k_12 this x4 x5 x6 x7 h = some r → nd_V l w yX6_element cX6_element 11 none 5 113 (.inl none, r) h 12 [(0, vr (some this)), (4, vi x4), (5, vi x5), (6, vi x6), (7, vi x7)] []) : ∀ (n : Nat) (this : Nat) (x4 : Int32) (x5 : Int32) (x6 : Int32) (x7 : Int32) (x9 : Int32) (x10 : Int32) (k_this : nd_Kd this = 5) (h : Hp), fX6_element_186 F d k_12 n this x4 x5 x6 x7 x9 x10 h = some r → nd_V l w yX6_element cX6_element 11 none 5 113 (.inl none, r) h 186 [(0, vr (some this)), (4, vi x4), (5, vi x5), (6, vi x6), (7, vi x7), (9, vi x9), (10, vi x10)] [] := by
  intro n
  induction n with
  | zero => intro _ _ _ _ _ _ _ _ _ hf; cases hf
  | succ n ih =>
    intro this x4 x5 x6 x7 x9 x10 k_this h hf
    unfold fX6_element_186 at hf
    refine nd_iload (j := 6) dX6_element_186 rfl ?_
    refine nd_aload_n (j := 0) dX6_element_188 rfl rfl ?_
    refine nd_getP (k := 15) dX6_element_189 k_this rfl (Nat.le_of_ble_eq_true rfl) (nd_flO q1355) rfl (fun ok1 => ?_)
    replace hf := nnE hf
    obtain ⟨a2, e_a2, hf⟩ := hf
    refine nd_topr e_a2.symm ?_
    have k_a2 : nd_Kd a2 = 20 := nd_c1 (ok1 a2 e_a2)
    refine nd_aload_n (j := 0) dX6_element_192 rfl rfl ?_
    refine nd_getI (k := 23) dX6_element_193 k_this rfl (Nat.le_of_ble_eq_true rfl) (nd_flO q1363) rfl ?_
    replace hf := ckE hf
    obtain ⟨c3, hf⟩ := hf
    refine nd_iald dX6_element_196 k_a2 c3 ?_
    refine nd_icmp_ge (tgt := 232) dX6_element_197 (by decide) (fun c4 => ?_) (fun c4 => ?_)
    · replace hf := ifp c4 hf
      exact nd_loc [0, 1, 2, 3, 4, 6] rfl (tX6_element_232 l w hfl F d r k_12 hk_12 _ _ _ _ _ _ k_this _ hf)
    · replace hf := ifn c4 hf
      refine nd_aload_n (j := 0) dX6_element_200 rfl rfl ?_
      refine nd_getP (k := 16) dX6_element_201 k_this rfl (Nat.le_of_ble_eq_true rfl) (nd_flO q1356) rfl (fun ok5 => ?_)
      replace hf := nnE hf
      obtain ⟨a6, e_a6, hf⟩ := hf
      refine nd_topr e_a6.symm ?_
      have k_a6 : nd_Kd a6 = 20 := nd_c1 (ok5 a6 e_a6)
      refine nd_aload_n (j := 0) dX6_element_204 rfl rfl ?_
      refine nd_getP (k := 20) dX6_element_205 k_this rfl (Nat.le_of_ble_eq_true rfl) (nd_flO q1360) rfl (fun ok7 => ?_)
      replace hf := nnE hf
      obtain ⟨a8, e_a8, hf⟩ := hf
      refine nd_topr e_a8.symm ?_
      have k_a8 : nd_Kd a8 = 20 := nd_c1 (ok7 a8 e_a8)
      refine nd_bipush (v := 6) dX6_element_208 (by decide) ?_
      refine nd_aload_n (j := 0) dX6_element_210 rfl rfl ?_
      refine nd_getI (k := 23) dX6_element_211 k_this rfl (Nat.le_of_ble_eq_true rfl) (nd_flO q1363) rfl ?_
      refine nd_imul dX6_element_214 ?_
      refine nd_iload (j := 6) dX6_element_215 rfl ?_
      refine nd_iadd dX6_element_217 ?_
      replace hf := ckE hf
      obtain ⟨c9, hf⟩ := hf
      refine nd_iald dX6_element_218 k_a8 c9 ?_
      replace hf := ckE hf
      obtain ⟨c10, hf⟩ := hf
      refine nd_iald dX6_element_219 k_a6 c10 ?_
      refine nd_iload (j := 5) dX6_element_220 rfl ?_
      refine nd_iand dX6_element_222 ?_
      refine nd_if_ne (tgt := 232) dX6_element_223 (by decide) (fun c11 => ?_) (fun c11 => ?_)
      · replace hf := ifn c11 hf
        exact nd_loc [0, 1, 2, 3, 4, 6] rfl (tX6_element_232 l w hfl F d r k_12 hk_12 _ _ _ _ _ _ k_this _ hf)
      · replace hf := ifp c11 hf
        replace hf := bnE hf
        obtain ⟨v12, e_v12, hf⟩ := hf
        refine nd_iinc (v := v12) (j := 6) [(10, vi v12), (0, vr (some this)), (4, vi x4), (5, vi x5), (6, vi x6), (7, vi x7), (9, vi x9)] dX6_element_226 rfl (by rw [e_v12]; rfl) (Nat.le_of_ble_eq_true rfl) rfl ?_
        refine nd_goto (tgt := 186) dX6_element_229 (by decide) ?_
        exact nd_loc [1, 2, 3, 4, 5, 6, 0] rfl (ih _ _ _ _ _ _ _ k_this _ hf)
set_option maxHeartbeats 4000000 in
theorem tX6_element_181 (l : Launch) (w : Wd) (hfl : l.stackTraces = false) (F d : Nat) (r : Hp) (k_12 : Nat → Int32 → Int32 → Int32 → Int32 → Hp → Option (Hp)) (hk_12 : ∀ (this : Nat) (x4 : Int32) (x5 : Int32) (x6 : Int32) (x7 : Int32) (k_this : nd_Kd this = 5) (h : Hp), k_12 this x4 x5 x6 x7 h = some r → nd_V l w yX6_element cX6_element 11 none 5 113 (.inl none, r) h 12 [(0, vr (some this)), (4, vi x4), (5, vi x5), (6, vi x6), (7, vi x7)] []) (this : Nat) (x4 : Int32) (x5 : Int32) (x6 : Int32) (x7 : Int32) (s0 : Int32) (k_this : nd_Kd this = 5) (h : Hp) (hf : fX6_element_181 F d k_12 this x4 x5 x6 x7 s0 h = some r) : nd_V l w yX6_element cX6_element 11 none 5 113 (.inl none, r) h 181 [(0, vr (some this)), (4, vi x4), (5, vi x5), (6, vi x6), (7, vi x7)] [vi s0] := by
  unfold fX6_element_181 at hf
  refine nd_istore [(9, vi s0), (0, vr (some this)), (4, vi x4), (5, vi x5), (6, vi x6), (7, vi x7)] dX6_element_181 (Nat.le_of_ble_eq_true rfl) rfl ?_
  refine nd_iconst (v := 0) dX6_element_183 (by decide) ?_
  refine nd_istore [(10, vi 0), (9, vi s0), (0, vr (some this)), (4, vi x4), (5, vi x5), (6, vi x6), (7, vi x7)] dX6_element_184 (Nat.le_of_ble_eq_true rfl) rfl ?_
  exact nd_loc [2, 3, 4, 5, 6, 1, 0] rfl (tX6_element_186 l w hfl F d r k_12 hk_12 F _ _ _ _ _ _ _ k_this _ hf)
set_option maxHeartbeats 4000000 in
theorem tX6_element_147 (l : Launch) (w : Wd) (hfl : l.stackTraces = false) (F d : Nat) (r : Hp) (k_12 : Nat → Int32 → Int32 → Int32 → Int32 → Hp → Option (Hp)) (hk_12 : ∀ (this : Nat) (x4 : Int32) (x5 : Int32) (x6 : Int32) (x7 : Int32) (k_this : nd_Kd this = 5) (h : Hp), k_12 this x4 x5 x6 x7 h = some r → nd_V l w yX6_element cX6_element 11 none 5 113 (.inl none, r) h 12 [(0, vr (some this)), (4, vi x4), (5, vi x5), (6, vi x6), (7, vi x7)] []) (this : Nat) (x4 : Int32) (x5 : Int32) (x6 : Int32) (s0 : Int32) (k_this : nd_Kd this = 5) (h : Hp) (hf : fX6_element_147 F d k_12 this x4 x5 x6 s0 h = some r) : nd_V l w yX6_element cX6_element 11 none 5 113 (.inl none, r) h 147 [(0, vr (some this)), (4, vi x4), (5, vi x5), (6, vi x6)] [vi s0] := by
  unfold fX6_element_147 at hf
  refine nd_istore [(7, vi s0), (0, vr (some this)), (4, vi x4), (5, vi x5), (6, vi x6)] dX6_element_147 (Nat.le_of_ble_eq_true rfl) rfl ?_
  refine nd_iload (j := 0) dX6_element_149 rfl ?_
  refine nd_if_eq (tgt := 301) dX6_element_151 (by decide) (fun c1 => ?_) (fun c1 => ?_)
  · replace hf := ifp c1 hf
    exact nd_loc [1, 2, 3, 4, 0] rfl (tX6_element_301 l w hfl F d r k_12 hk_12 _ _ _ _ _ k_this _ hf)
  · replace hf := ifn c1 hf
    refine nd_aload_n (j := 1) dX6_element_154 rfl rfl ?_
    refine nd_getI (k := 47) dX6_element_155 k_this rfl (Nat.le_of_ble_eq_true rfl) (nd_flO q1387) rfl ?_
    refine nd_aload_n (j := 1) dX6_element_158 rfl rfl ?_
    replace hf := caE hf
    obtain ⟨v3, h2, e_h2, hf⟩ := hf
    refine nd_Vi [vi (gI h 647 this)] (tX6_bound l w hfl F d k_this e_h2) rfl dX6_element_159 mw_X6_bound (Or.inl q1643) k_this rfl q1645 qs52 (by omega) (by omega) (Nat.le_of_ble_eq_true rfl) ?_
    refine nd_icmp_ge (tgt := 180) dX6_element_162 (by decide) (fun c4 => ?_) (fun c4 => ?_)
    · replace hf := ifp c4 hf
      refine nd_iconst (v := 0) dX6_element_180 (by decide) ?_
      exact nd_loc [1, 2, 3, 4, 0] rfl (tX6_element_181 l w hfl F d r k_12 hk_12 _ _ _ _ _ _ k_this _ hf)
    · replace hf := ifn c4 hf
      refine nd_aload_n (j := 1) dX6_element_165 rfl rfl ?_
      refine nd_getP (k := 32) dX6_element_166 k_this rfl (Nat.le_of_ble_eq_true rfl) (nd_flO q1372) rfl (fun ok5 => ?_)
      replace hf := nnE hf
      obtain ⟨a6, e_a6, hf⟩ := hf
      refine nd_topr e_a6.symm ?_
      have k_a6 : nd_Kd a6 = 20 := nd_c1 (ok5 a6 e_a6)
      refine nd_aload_n (j := 1) dX6_element_169 rfl rfl ?_
      refine nd_getI (k := 47) dX6_element_170 k_this rfl (Nat.le_of_ble_eq_true rfl) (nd_flO q1387) rfl ?_
      replace hf := ckE hf
      obtain ⟨c7, hf⟩ := hf
      refine nd_iald dX6_element_173 k_a6 c7 ?_
      replace hf := caE hf
      obtain ⟨v9, h8, e_h8, hf⟩ := hf
      refine nd_Si [] (tX6_bitOf l w hfl F d e_h8) rfl dX6_element_174 mw_X6_bitOf (Or.inl q1659) q1660 (by omega) (by omega) (Nat.le_of_ble_eq_true rfl) ?_
      refine nd_goto (tgt := 181) dX6_element_177 (by decide) ?_
      exact nd_loc [1, 2, 3, 4, 0] rfl (tX6_element_181 l w hfl F d r k_12 hk_12 _ _ _ _ _ _ k_this _ hf)
set_option maxHeartbeats 4000000 in
theorem tX6_element_146 (l : Launch) (w : Wd) (hfl : l.stackTraces = false) (F d : Nat) (r : Hp) (k_12 : Nat → Int32 → Int32 → Int32 → Int32 → Hp → Option (Hp)) (hk_12 : ∀ (this : Nat) (x4 : Int32) (x5 : Int32) (x6 : Int32) (x7 : Int32) (k_this : nd_Kd this = 5) (h : Hp), k_12 this x4 x5 x6 x7 h = some r → nd_V l w yX6_element cX6_element 11 none 5 113 (.inl none, r) h 12 [(0, vr (some this)), (4, vi x4), (5, vi x5), (6, vi x6), (7, vi x7)] []) (this : Nat) (x4 : Int32) (x5 : Int32) (x6 : Int32) (k_this : nd_Kd this = 5) (h : Hp) (hf : fX6_element_146 F d k_12 this x4 x5 x6 h = some r) : nd_V l w yX6_element cX6_element 11 none 5 113 (.inl none, r) h 146 [(0, vr (some this)), (4, vi x4), (5, vi x5), (6, vi x6)] [] := by
  unfold fX6_element_146 at hf
  refine nd_iconst (v := 0) dX6_element_146 (by decide) ?_
  exact nd_loc [0, 1, 2, 3] rfl (tX6_element_147 l w hfl F d r k_12 hk_12 _ _ _ _ _ k_this _ hf)
set_option maxHeartbeats 4000000 in
theorem tX6_element_121 (l : Launch) (w : Wd) (hfl : l.stackTraces = false) (F d : Nat) (r : Hp) (k_12 : Nat → Int32 → Int32 → Int32 → Int32 → Hp → Option (Hp)) (hk_12 : ∀ (this : Nat) (x4 : Int32) (x5 : Int32) (x6 : Int32) (x7 : Int32) (k_this : nd_Kd this = 5) (h : Hp), k_12 this x4 x5 x6 x7 h = some r → nd_V l w yX6_element cX6_element 11 none 5 113 (.inl none, r) h 12 [(0, vr (some this)), (4, vi x4), (5, vi x5), (6, vi x6), (7, vi x7)] []) (this : Nat) (x4 : Int32) (x5 : Int32) (x6 : Int32) (k_this : nd_Kd this = 5) (h : Hp) (hf : fX6_element_121 F d k_12 this x4 x5 x6 h = some r) : nd_V l w yX6_element cX6_element 11 none 5 113 (.inl none, r) h 121 [(0, vr (some this)), (4, vi x4), (5, vi x5), (6, vi x6)] [] := by
  unfold fX6_element_121 at hf
  refine nd_aload_n (j := 0) dX6_element_121 rfl rfl ?_
  refine nd_getI (k := 49) dX6_element_122 k_this rfl (Nat.le_of_ble_eq_true rfl) (nd_flO q1389) rfl ?_
  refine nd_if_eq (tgt := 146) dX6_element_125 (by decide) (fun c1 => ?_) (fun c1 => ?_)
  · replace hf := ifp c1 hf
    exact nd_loc [0, 1, 2, 3] rfl (tX6_element_146 l w hfl F d r k_12 hk_12 _ _ _ _ k_this _ hf)
  · replace hf := ifn c1 hf
    refine nd_aload_n (j := 0) dX6_element_128 rfl rfl ?_
    refine nd_getP (k := 11) dX6_element_129 k_this rfl (Nat.le_of_ble_eq_true rfl) (nd_flO q1351) rfl (fun ok2 => ?_)
    replace hf := nnE hf
    obtain ⟨a3, e_a3, hf⟩ := hf
    refine nd_topr e_a3.symm ?_
    have k_a3 : nd_Kd a3 = 20 := nd_c1 (ok2 a3 e_a3)
    refine nd_aload_n (j := 0) dX6_element_132 rfl rfl ?_
    refine nd_getI (k := 23) dX6_element_133 k_this rfl (Nat.le_of_ble_eq_true rfl) (nd_flO q1363) rfl ?_
    replace hf := ckE hf
    obtain ⟨c4, hf⟩ := hf
    refine nd_iald dX6_element_136 k_a3 c4 ?_
    refine nd_bipush (v := 9) dX6_element_137 (by decide) ?_
    refine nd_icmp_ne (tgt := 146) dX6_element_139 (by decide) (fun c5 => ?_) (fun c5 => ?_)
    · replace hf := ifn c5 hf
      exact nd_loc [0, 1, 2, 3] rfl (tX6_element_146 l w hfl F d r k_12 hk_12 _ _ _ _ k_this _ hf)
    · replace hf := ifp c5 hf
      refine nd_iconst (v := 1) dX6_element_142 (by decide) ?_
      refine nd_goto (tgt := 147) dX6_element_143 (by decide) ?_
      exact nd_loc [0, 1, 2, 3] rfl (tX6_element_147 l w hfl F d r k_12 hk_12 _ _ _ _ _ k_this _ hf)
set_option maxHeartbeats 4000000 in
theorem tX6_element_115 (l : Launch) (w : Wd) (hfl : l.stackTraces = false) (F d : Nat) (r : Hp) (k_12 : Nat → Int32 → Int32 → Int32 → Int32 → Hp → Option (Hp)) (hk_12 : ∀ (this : Nat) (x4 : Int32) (x5 : Int32) (x6 : Int32) (x7 : Int32) (k_this : nd_Kd this = 5) (h : Hp), k_12 this x4 x5 x6 x7 h = some r → nd_V l w yX6_element cX6_element 11 none 5 113 (.inl none, r) h 12 [(0, vr (some this)), (4, vi x4), (5, vi x5), (6, vi x6), (7, vi x7)] []) (k_59 : Nat → Int32 → Int32 → Int32 → Int32 → Int32 → Hp → Option (Hp)) (hk_59 : ∀ (this : Nat) (x4 : Int32) (x5 : Int32) (x6 : Int32) (x8 : Int32) (x9 : Int32) (k_this : nd_Kd this = 5) (h : Hp), k_59 this x4 x5 x6 x8 x9 h = some r → nd_V l w yX6_element cX6_element 11 none 5 113 (.inl none, r) h 59 [(0, vr (some this)), (4, vi x4), (5, vi x5), (6, vi x6), (8, vi x8), (9, vi x9)] []) (this : Nat) (x4 : Int32) (x5 : Int32) (x6 : Int32) (x8 : Int32) (x9 : Int32) (k_this : nd_Kd this = 5) (h : Hp) (hf : fX6_element_115 F d k_12 k_59 this x4 x5 x6 x8 x9 h = some r) : nd_V l w yX6_element cX6_element 11 none 5 113 (.inl none, r) h 115 [(0, vr (some this)), (4, vi x4), (5, vi x5), (6, vi x6), (8, vi x8), (9, vi x9)] [] := by
  unfold fX6_element_115 at hf
  replace hf := bnE hf
  obtain ⟨v1, e_v1, hf⟩ := hf
  refine nd_iinc (v := v1) (j := 5) [(9, vi v1), (0, vr (some this)), (4, vi x4), (5, vi x5), (6, vi x6), (8, vi x8)] dX6_element_115 rfl (by rw [e_v1]; rfl) (Nat.le_of_ble_eq_true rfl) rfl ?_
  refine nd_goto (tgt := 59) dX6_element_118 (by decide) ?_
  exact nd_loc [1, 2, 3, 4, 5, 0] rfl (hk_59 _ _ _ _ _ _ k_this _ hf)
set_option maxHeartbeats 4000000 in
theorem tX6_element_100 (l : Launch) (w : Wd) (hfl : l.stackTraces = false) (F d : Nat) (r : Hp) (k_12 : Nat → Int32 → Int32 → Int32 → Int32 → Hp → Option (Hp)) (hk_12 : ∀ (this : Nat) (x4 : Int32) (x5 : Int32) (x6 : Int32) (x7 : Int32) (k_this : nd_Kd this = 5) (h : Hp), k_12 this x4 x5 x6 x7 h = some r → nd_V l w yX6_element cX6_element 11 none 5 113 (.inl none, r) h 12 [(0, vr (some this)), (4, vi x4), (5, vi x5), (6, vi x6), (7, vi x7)] []) (k_59 : Nat → Int32 → Int32 → Int32 → Int32 → Int32 → Hp → Option (Hp)) (hk_59 : ∀ (this : Nat) (x4 : Int32) (x5 : Int32) (x6 : Int32) (x8 : Int32) (x9 : Int32) (k_this : nd_Kd this = 5) (h : Hp), k_59 this x4 x5 x6 x8 x9 h = some r → nd_V l w yX6_element cX6_element 11 none 5 113 (.inl none, r) h 59 [(0, vr (some this)), (4, vi x4), (5, vi x5), (6, vi x6), (8, vi x8), (9, vi x9)] []) (this : Nat) (x4 : Int32) (x5 : Int32) (x6 : Int32) (x8 : Int32) (x9 : Int32) (s0 : Nat) (s1 : Int32) (k_this : nd_Kd this = 5) (k_s0 : nd_Kd s0 = 5) (h : Hp) (hf : fX6_element_100 F d k_12 k_59 this x4 x5 x6 x8 x9 s0 s1 h = some r) : nd_V l w yX6_element cX6_element 11 none 5 113 (.inl none, r) h 100 [(0, vr (some this)), (4, vi x4), (5, vi x5), (6, vi x6), (8, vi x8), (9, vi x9)] [vi s1, vr (some s0)] := by
  unfold fX6_element_100 at hf
  replace hf := ckE hf
  obtain ⟨c2, hf⟩ := hf
  refine nd_putZ (k := 49) c2 dX6_element_100 k_s0 rfl (Nat.le_of_ble_eq_true rfl) (nd_flO q1389) rfl rfl rfl ?_
  replace hf := bnE hf
  obtain ⟨h1, e_h1, hf⟩ := hf
  refine nd_hp e_h1 ?_
  refine nd_aload_n (j := 0) dX6_element_103 rfl rfl ?_
  refine nd_getI (k := 49) dX6_element_104 k_this rfl (Nat.le_of_ble_eq_true rfl) (nd_flO q1389) rfl ?_
  refine nd_if_eq (tgt := 115) dX6_element_107 (by decide) (fun c3 => ?_) (fun c3 => ?_)
  · replace hf := ifp c3 hf
    exact nd_loc [0, 1, 2, 3, 4, 5] rfl (tX6_element_115 l w hfl F d r k_12 hk_12 k_59 hk_59 _ _ _ _ _ _ k_this _ hf)
  · replace hf := ifn c3 hf
    refine nd_aload_n (j := 0) dX6_element_110 rfl rfl ?_
    refine nd_iconst (v := (-1)) dX6_element_111 (by decide) ?_
    replace hf := cvE hf
    obtain ⟨h4, e_h4, hf⟩ := hf
    refine nd_Vv [] (tX6_enter l w hfl F d k_this e_h4) rfl dX6_element_112 mw_X6_enter (Or.inl q1647) k_this rfl q1649 qs53 (by omega) (by omega) (Nat.le_of_ble_eq_true rfl) ?_
    exact nd_loc [0, 1, 2, 3, 4, 5] rfl (tX6_element_115 l w hfl F d r k_12 hk_12 k_59 hk_59 _ _ _ _ _ _ k_this _ hf)
set_option maxHeartbeats 4000000 in
theorem tX6_element_99 (l : Launch) (w : Wd) (hfl : l.stackTraces = false) (F d : Nat) (r : Hp) (k_12 : Nat → Int32 → Int32 → Int32 → Int32 → Hp → Option (Hp)) (hk_12 : ∀ (this : Nat) (x4 : Int32) (x5 : Int32) (x6 : Int32) (x7 : Int32) (k_this : nd_Kd this = 5) (h : Hp), k_12 this x4 x5 x6 x7 h = some r → nd_V l w yX6_element cX6_element 11 none 5 113 (.inl none, r) h 12 [(0, vr (some this)), (4, vi x4), (5, vi x5), (6, vi x6), (7, vi x7)] []) (k_59 : Nat → Int32 → Int32 → Int32 → Int32 → Int32 → Hp → Option (Hp)) (hk_59 : ∀ (this : Nat) (x4 : Int32) (x5 : Int32) (x6 : Int32) (x8 : Int32) (x9 : Int32) (k_this : nd_Kd this = 5) (h : Hp), k_59 this x4 x5 x6 x8 x9 h = some r → nd_V l w yX6_element cX6_element 11 none 5 113 (.inl none, r) h 59 [(0, vr (some this)), (4, vi x4), (5, vi x5), (6, vi x6), (8, vi x8), (9, vi x9)] []) (this : Nat) (x4 : Int32) (x5 : Int32) (x6 : Int32) (x8 : Int32) (x9 : Int32) (s0 : Nat) (k_this : nd_Kd this = 5) (k_s0 : nd_Kd s0 = 5) (h : Hp) (hf : fX6_element_99 F d k_12 k_59 this x4 x5 x6 x8 x9 s0 h = some r) : nd_V l w yX6_element cX6_element 11 none 5 113 (.inl none, r) h 99 [(0, vr (some this)), (4, vi x4), (5, vi x5), (6, vi x6), (8, vi x8), (9, vi x9)] [vr (some s0)] := by
  unfold fX6_element_99 at hf
  refine nd_iconst (v := 0) dX6_element_99 (by decide) ?_
  exact nd_loc [0, 1, 2, 3, 4, 5] rfl (tX6_element_100 l w hfl F d r k_12 hk_12 k_59 hk_59 _ _ _ _ _ _ _ _ k_this k_s0 _ hf)
set_option maxHeartbeats 4000000 in
theorem tX6_element_59 (l : Launch) (w : Wd) (hfl : l.stackTraces = false) (F d : Nat) (r : Hp) (k_12 : Nat → Int32 → Int32 → Int32 → Int32 → Hp → Option (Hp)) (hk_12 : ∀ (this : Nat) (x4 : Int32) (x5 : Int32) (x6 : Int32) (x7 : Int32) (k_this : nd_Kd this = 5) (h : Hp), k_12 this x4 x5 x6 x7 h = some r → nd_V l w yX6_element cX6_element 11 none 5 113 (.inl none, r) h 12 [(0, vr (some this)), (4, vi x4), (5, vi x5), (6, vi x6), (7, vi x7)] []) : ∀ (n : Nat) (this : Nat) (x4 : Int32) (x5 : Int32) (x6 : Int32) (x8 : Int32) (x9 : Int32) (k_this : nd_Kd this = 5) (h : Hp), fX6_element_59 F d k_12 n this x4 x5 x6 x8 x9 h = some r → nd_V l w yX6_element cX6_element 11 none 5 113 (.inl none, r) h 59 [(0, vr (some this)), (4, vi x4), (5, vi x5), (6, vi x6), (8, vi x8), (9, vi x9)] [] := by
  intro n
  induction n with
  | zero => intro _ _ _ _ _ _ _ _ hf; cases hf
  | succ n ih =>
    intro this x4 x5 x6 x8 x9 k_this h hf
    unfold fX6_element_59 at hf
    refine nd_iload (j := 5) dX6_element_59 rfl ?_
    refine nd_iload (j := 4) dX6_element_61 rfl ?_
    refine nd_icmp_lt (tgt := 121) dX6_element_63 (by decide) (fun c1 => ?_) (fun c1 => ?_)
    · replace hf := ifp c1 hf
      exact nd_loc [0, 1, 2, 3] rfl (tX6_element_121 l w hfl F d r k_12 hk_12 _ _ _ _ k_this _ hf)
    · replace hf := ifn c1 hf
      refine nd_aload_n (j := 0) dX6_element_66 rfl rfl ?_
      refine nd_getI (k := 49) dX6_element_67 k_this rfl (Nat.le_of_ble_eq_true rfl) (nd_flO q1389) rfl ?_
      refine nd_if_eq (tgt := 121) dX6_element_70 (by decide) (fun c2 => ?_) (fun c2 => ?_)
      · replace hf := ifp c2 hf
        exact nd_loc [0, 1, 2, 3] rfl (tX6_element_121 l w hfl F d r k_12 hk_12 _ _ _ _ k_this _ hf)
      · replace hf := ifn c2 hf
        refine nd_aload_n (j := 0) dX6_element_73 rfl rfl ?_
        refine nd_aload_n (j := 0) dX6_element_74 rfl rfl ?_
        replace hf := caE hf
        obtain ⟨v4, h3, e_h3, hf⟩ := hf
        refine nd_Vi [vr (some this)] (tX6_next l w hfl F d k_this e_h3) rfl dX6_element_75 mw_X6_next (Or.inl q1639) k_this rfl q1641 qs51 (by omega) (by omega) (Nat.le_of_ble_eq_true rfl) ?_
        refine nd_aload_n (j := 0) dX6_element_78 rfl rfl ?_
        refine nd_getP (k := 25) dX6_element_79 k_this rfl (Nat.le_of_ble_eq_true rfl) (nd_flO q1365) rfl (fun ok5 => ?_)
        replace hf := nnE hf
        obtain ⟨a6, e_a6, hf⟩ := hf
        refine nd_topr e_a6.symm ?_
        have k_a6 : nd_Kd a6 = 20 := nd_c1 (ok5 a6 e_a6)
        refine nd_iload (j := 5) dX6_element_82 rfl ?_
        replace hf := ckE hf
        obtain ⟨c7, hf⟩ := hf
        refine nd_iald dX6_element_84 k_a6 c7 ?_
        refine nd_icmp_ne (tgt := 99) dX6_element_85 (by decide) (fun c8 => ?_) (fun c8 => ?_)
        · replace hf := ifn c8 hf
          exact nd_loc [0, 1, 2, 3, 4, 5] rfl (tX6_element_99 l w hfl F d r k_12 hk_12 (fX6_element_59 F d k_12 n) ih _ _ _ _ _ _ _ k_this k_this _ hf)
        · replace hf := ifp c8 hf
          refine nd_aload_n (j := 0) dX6_element_88 rfl rfl ?_
          refine nd_getI (k := 49) dX6_element_89 k_this rfl (Nat.le_of_ble_eq_true rfl) (nd_flO q1389) rfl ?_
          refine nd_if_eq (tgt := 99) dX6_element_92 (by decide) (fun c9 => ?_) (fun c9 => ?_)
          · replace hf := ifp c9 hf
            exact nd_loc [0, 1, 2, 3, 4, 5] rfl (tX6_element_99 l w hfl F d r k_12 hk_12 (fX6_element_59 F d k_12 n) ih _ _ _ _ _ _ _ k_this k_this _ hf)
          · replace hf := ifn c9 hf
            refine nd_iconst (v := 1) dX6_element_95 (by decide) ?_
            refine nd_goto (tgt := 100) dX6_element_96 (by decide) ?_
            exact nd_loc [0, 1, 2, 3, 4, 5] rfl (tX6_element_100 l w hfl F d r k_12 hk_12 (fX6_element_59 F d k_12 n) ih _ _ _ _ _ _ _ _ k_this k_this _ hf)
set_option maxHeartbeats 4000000 in
theorem tX6_element_49 (l : Launch) (w : Wd) (hfl : l.stackTraces = false) (F d : Nat) (r : Hp) (k_12 : Nat → Int32 → Int32 → Int32 → Int32 → Hp → Option (Hp)) (hk_12 : ∀ (this : Nat) (x4 : Int32) (x5 : Int32) (x6 : Int32) (x7 : Int32) (k_this : nd_Kd this = 5) (h : Hp), k_12 this x4 x5 x6 x7 h = some r → nd_V l w yX6_element cX6_element 11 none 5 113 (.inl none, r) h 12 [(0, vr (some this)), (4, vi x4), (5, vi x5), (6, vi x6), (7, vi x7)] []) (this : Nat) (x4 : Int32) (x5 : Int32) (x6 : Int32) (s0 : Int32) (k_this : nd_Kd this = 5) (h : Hp) (hf : fX6_element_49 F d k_12 this x4 x5 x6 s0 h = some r) : nd_V l w yX6_element cX6_element 11 none 5 113 (.inl none, r) h 49 [(0, vr (some this)), (4, vi x4), (5, vi x5), (6, vi x6)] [vi s0] := by
  unfold fX6_element_49 at hf
  refine nd_istore [(8, vi s0), (0, vr (some this)), (4, vi x4), (5, vi x5), (6, vi x6)] dX6_element_49 (Nat.le_of_ble_eq_true rfl) rfl ?_
  refine nd_aload_n (j := 1) dX6_element_51 rfl rfl ?_
  refine nd_getI (k := 24) dX6_element_52 k_this rfl (Nat.le_of_ble_eq_true rfl) (nd_flO q1364) rfl ?_
  refine nd_iconst (v := 1) dX6_element_55 (by decide) ?_
  refine nd_isub dX6_element_56 ?_
  replace hf := bnE hf
  obtain ⟨v1, e_v1, hf⟩ := hf
  refine nd_top e_v1 ?_
  refine nd_istore [(9, vi v1), (8, vi s0), (0, vr (some this)), (4, vi x4), (5, vi x5), (6, vi x6)] dX6_element_57 (Nat.le_of_ble_eq_true rfl) rfl ?_
  exact nd_loc [2, 3, 4, 5, 1, 0] rfl (tX6_element_59 l w hfl F d r k_12 hk_12 F _ _ _ _ _ _ k_this _ hf)
set_option maxHeartbeats 4000000 in
theorem tX6_element_12 (l : Launch) (w : Wd) (hfl : l.stackTraces = false) (F d : Nat) (r : Hp) : ∀ (n : Nat) (this : Nat) (x4 : Int32) (x5 : Int32) (x6 : Int32) (x7 : Int32) (k_this : nd_Kd this = 5) (h : Hp), fX6_element_12 F d n this x4 x5 x6 x7 h = some r → nd_V l w yX6_element cX6_element 11 none 5 113 (.inl none, r) h 12 [(0, vr (some this)), (4, vi x4), (5, vi x5), (6, vi x6), (7, vi x7)] [] := by
  intro n
  induction n with
  | zero => intro _ _ _ _ _ _ _ hf; cases hf
  | succ n ih =>
    intro this x4 x5 x6 x7 k_this h hf
    unfold fX6_element_12 at hf
    refine nd_iload (j := 4) dX6_element_12 rfl ?_
    refine nd_if_eq (tgt := 304) dX6_element_14 (by decide) (fun c1 => ?_) (fun c1 => ?_)
    · replace hf := ifp c1 hf
      exact nd_loc [0, 1, 2, 3] rfl (tX6_element_304 l w hfl F d r _ _ _ _ k_this _ hf)
    · replace hf := ifn c1 hf
      refine nd_aload_n (j := 0) dX6_element_17 rfl rfl ?_
      refine nd_getI (k := 49) dX6_element_18 k_this rfl (Nat.le_of_ble_eq_true rfl) (nd_flO q1389) rfl ?_
      refine nd_if_eq (tgt := 304) dX6_element_21 (by decide) (fun c2 => ?_) (fun c2 => ?_)
      · replace hf := ifp c2 hf
        exact nd_loc [0, 1, 2, 3] rfl (tX6_element_304 l w hfl F d r _ _ _ _ k_this _ hf)
      · replace hf := ifn c2 hf
        refine nd_aload_n (j := 0) dX6_element_24 rfl rfl ?_
        refine nd_iload (j := 1) dX6_element_25 rfl ?_
        replace hf := cvE hf
        obtain ⟨h3, e_h3, hf⟩ := hf
        refine nd_Vv [] (tX6_unwrap l w hfl F d k_this e_h3) rfl dX6_element_27 mw_X6_unwrap (Or.inl q1594) k_this rfl q1596 qs44 (by omega) (by omega) (Nat.le_of_ble_eq_true rfl) ?_
        refine nd_aload_n (j := 0) dX6_element_30 rfl rfl ?_
        refine nd_getP (k := 11) dX6_element_31 k_this rfl (Nat.le_of_ble_eq_true rfl) (nd_flO q1351) rfl (fun ok5 => ?_)
        replace hf := nnE hf
        obtain ⟨a6, e_a6, hf⟩ := hf
        refine nd_topr e_a6.symm ?_
        have k_a6 : nd_Kd a6 = 20 := nd_c1 (ok5 a6 e_a6)
        refine nd_aload_n (j := 0) dX6_element_34 rfl rfl ?_
        refine nd_getI (k := 23) dX6_element_35 k_this rfl (Nat.le_of_ble_eq_true rfl) (nd_flO q1363) rfl ?_
        replace hf := ckE hf
        obtain ⟨c7, hf⟩ := hf
        refine nd_iald dX6_element_38 k_a6 c7 ?_
        refine nd_bipush (v := 9) dX6_element_39 (by decide) ?_
        refine nd_icmp_ne (tgt := 48) dX6_element_41 (by decide) (fun c8 => ?_) (fun c8 => ?_)
        · replace hf := ifn c8 hf
          refine nd_iconst (v := 1) dX6_element_48 (by decide) ?_
          exact nd_loc [0, 1, 2, 3] rfl (tX6_element_49 l w hfl F d r (fX6_element_12 F d n) ih _ _ _ _ _ k_this _ hf)
        · replace hf := ifp c8 hf
          refine nd_iconst (v := 0) dX6_element_44 (by decide) ?_
          refine nd_goto (tgt := 49) dX6_element_45 (by decide) ?_
          exact nd_loc [0, 1, 2, 3] rfl (tX6_element_49 l w hfl F d r (fX6_element_12 F d n) ih _ _ _ _ _ k_this _ hf)
set_option maxHeartbeats 4000000 in
theorem tX6_element (l : Launch) (w : Wd) (hfl : l.stackTraces = false) (F d : Nat) {this : Nat} {p0 : Int32} {p1 : Int32} {p2 : Int32} (k_this : nd_Kd this = 5) {h : Hp} {r : Hp} (hf : fX6_element F d this p0 p1 p2 h = some r) : nd_C l w yX6_element cX6_element 11 none 5 113 [vr (some this), vi p0, vi p1, vi p2] h (.inl none, r) := by
  refine nd_start (as := [vr (some this), vi p0, vi p1, vi p2]) hfl (by decide) (Nat.le_of_ble_eq_true rfl) ?_
  unfold fX6_element at hf
  refine nd_eqL (L' := [(0, vr (some this)), (1, vi p0), (2, vi p1), (3, vi p2)]) rfl ?_
  refine nd_iload_n (j := 1) dX6_element_0 rfl rfl ?_
  refine nd_istore [(4, vi p0), (0, vr (some this)), (1, vi p0), (2, vi p1), (3, vi p2)] dX6_element_1 (Nat.le_of_ble_eq_true rfl) rfl ?_
  refine nd_iload_n (j := 3) dX6_element_3 rfl rfl ?_
  refine nd_istore [(5, vi p1), (4, vi p0), (0, vr (some this)), (1, vi p0), (2, vi p1), (3, vi p2)] dX6_element_4 (Nat.le_of_ble_eq_true rfl) rfl ?_
  refine nd_iload_n (j := 5) dX6_element_6 rfl rfl ?_
  refine nd_istore [(6, vi p2), (5, vi p1), (4, vi p0), (0, vr (some this)), (1, vi p0), (2, vi p1), (3, vi p2)] dX6_element_7 (Nat.le_of_ble_eq_true rfl) rfl ?_
  refine nd_iconst (v := 1) dX6_element_9 (by decide) ?_
  refine nd_istore [(7, vi 1), (6, vi p2), (5, vi p1), (4, vi p0), (0, vr (some this)), (1, vi p0), (2, vi p1), (3, vi p2)] dX6_element_10 (Nat.le_of_ble_eq_true rfl) rfl ?_
  exact nd_loc [4, 3, 2, 1, 0] rfl (tX6_element_12 l w hfl F d r F _ _ _ _ _ k_this _ hf)
def fX6_align (F d : Nat) (this : Nat) (h : Hp) : Option (Hp) :=
  bn (sI h 647 this ((((gI h 647 this) + 7) / 8) * 8)) fun h1 => (
  some h1)
theorem mw_X6_align : nd_MW yX6_align cX6_align 1 none 0 := ⟨q1686, q91, by decide, by decide, by decide +kernel⟩
set_option maxHeartbeats 4000000 in
theorem tX6_align (l : Launch) (w : Wd) (hfl : l.stackTraces = false) (F d : Nat) {this : Nat} (k_this : nd_Kd this = 5) {h : Hp} {r : Hp} (hf : fX6_align F d this h = some r) : nd_C l w yX6_align cX6_align 1 none 0 0 [vr (some this)] h (.inl none, r) := by
  refine nd_start (as := [vr (some this)]) hfl (by decide) (Nat.le_of_ble_eq_true rfl) ?_
  unfold fX6_align at hf
  refine nd_eqL (L' := [(0, vr (some this))]) rfl ?_
  refine nd_aload_n (j := 0) dX6_align_0 rfl rfl ?_
  refine nd_aload_n (j := 0) dX6_align_1 rfl rfl ?_
  refine nd_getI (k := 47) dX6_align_2 k_this rfl (Nat.le_of_ble_eq_true rfl) (nd_flO q1387) rfl ?_
  refine nd_bipush (v := 7) dX6_align_5 (by decide) ?_
  refine nd_iadd dX6_align_7 ?_
  refine nd_bipush (v := 8) dX6_align_8 (by decide) ?_
  refine nd_idiv dX6_align_10 (by decide) ?_
  refine nd_bipush (v := 8) dX6_align_11 (by decide) ?_
  refine nd_imul dX6_align_13 ?_
  refine nd_putN (k := 47) dX6_align_14 k_this rfl (Nat.le_of_ble_eq_true rfl) (nd_flO q1387) rfl rfl rfl ?_
  replace hf := bnE hf
  obtain ⟨h1, e_h1, hf⟩ := hf
  refine nd_hp e_h1 ?_
  cases hf
  exact nd_vret dX6_align_17
def fX6_width_2 (F d : Nat) : Nat → Int32 → Int32 → Hp → Option (Int32 × Hp)
  | 0, _, _, _ => none
  | n + 1, x0, x1, h =>
    if (x0 >>> (x1 &&& 31)) ≤ 0 then
    (some (x1, h))
    else
    (bn (x1 + 1) fun v2 => (
    fX6_width_2 F d n x0 v2 h))
def fX6_width (F d : Nat) (p0 : Int32) (h : Hp) : Option (Int32 × Hp) :=
  fX6_width_2 F d F p0 0 h
theorem mw_X6_width : nd_MW yX6_width cX6_width 2 (some .int) 1 := ⟨q1689, q91, by decide, by decide, by decide +kernel⟩
set_option maxHeartbeats 4000000 in
theorem tX6_width_2 (l : Launch) (w : Wd) (hfl : l.stackTraces = false) (F d : Nat) (r : Int32 × Hp) : ∀ (n : Nat) (x0 : Int32) (x1 : Int32)  (h : Hp), fX6_width_2 F d n x0 x1 h = some r → nd_V l w yX6_width cX6_width 2 (some .int) 0 0 (.inl (some (vi r.1)), r.2) h 2 [(0, vi x0), (1, vi x1)] [] := by
  intro n
  induction n with
  | zero => intro _ _ _ hf; cases hf
  | succ n ih =>
    intro x0 x1 h hf
    unfold fX6_width_2 at hf
    refine nd_iload_n (j := 0) dX6_width_2 rfl rfl ?_
    refine nd_iload_n (j := 1) dX6_width_3 rfl rfl ?_
    refine nd_ishr dX6_width_4 ?_
    refine nd_if_le (tgt := 14) dX6_width_5 (by decide) (fun c1 => ?_) (fun c1 => ?_)
    · replace hf := ifp c1 hf
      refine nd_iload_n (j := 1) dX6_width_14 rfl rfl ?_
      cases hf
      exact nd_iret (v := x1) dX6_width_15
    · replace hf := ifn c1 hf
      replace hf := bnE hf
      obtain ⟨v2, e_v2, hf⟩ := hf
      refine nd_iinc (v := v2) (j := 1) [(1, vi v2), (0, vi x0)] dX6_width_8 rfl (by rw [e_v2]; rfl) (Nat.le_of_ble_eq_true rfl) rfl ?_
      refine nd_goto (tgt := 2) dX6_width_11 (by decide) ?_
      exact nd_loc [1, 0] rfl (ih _ _ _ hf)
set_option maxHeartbeats 4000000 in
theorem tX6_width (l : Launch) (w : Wd) (hfl : l.stackTraces = false) (F d : Nat) {p0 : Int32}  {h : Hp} {r : Int32 × Hp} (hf : fX6_width F d p0 h = some r) : nd_C l w yX6_width cX6_width 2 (some .int) 0 0 [vi p0] h (.inl (some (vi r.1)), r.2) := by
  refine nd_start (as := [vi p0]) hfl (by decide) (Nat.le_of_ble_eq_true rfl) ?_
  unfold fX6_width at hf
  refine nd_eqL (L' := [(0, vi p0)]) rfl ?_
  refine nd_iconst (v := 0) dX6_width_0 (by decide) ?_
  refine nd_istore_n [(1, vi 0), (0, vi p0)] dX6_width_1 rfl (Nat.le_of_ble_eq_true rfl) rfl ?_
  exact nd_loc [1, 0] rfl (tX6_width_2 l w hfl F d r F _ _ _ hf)
def fX6_bit_19 (F d : Nat) (this : Nat) (h : Hp) : Option (Int32 × Hp) :=
  bn (sI h 647 this ((gI h 647 this) + 1)) fun h1 => (
  if (gI h1 649 this) = 0 then
  (some (0, h1))
  else
  (nn (gP h1 632 this) fun a4 => (
  ck (inb (((gI h1 647 this) - 1) / 8) (nd_Ln a4)) (
  bn ((gI h1 647 this) - 1) fun v6 => (
  some ((((gA h1 a4 (Int32.toNatClampNeg (((gI h1 647 this) - 1) / 8))) >>> ((7 - (v6 - v6 / 8 * 8)) &&& 31)) &&& 1), h1))))))
def fX6_bit (F d : Nat) (this : Nat) (h : Hp) : Option (Int32 × Hp) :=
  if (gI h 647 this) < (8 * (gI h 628 this)) then
  (fX6_bit_19 F d this h)
  else
  (bn (sI h 649 this 0) fun h2 => (
  fX6_bit_19 F d this h2))
theorem mw_X6_bit : nd_MW yX6_bit cX6_bit 1 (some .int) 0 := ⟨q1697, q91, by decide, by decide, by decide +kernel⟩
set_option maxHeartbeats 4000000 in
theorem tX6_bit_19 (l : Launch) (w : Wd) (hfl : l.stackTraces = false) (F d : Nat) (r : Int32 × Hp) (this : Nat) (k_this : nd_Kd this = 5) (h : Hp) (hf : fX6_bit_19 F d this h = some r) : nd_V l w yX6_bit cX6_bit 1 (some .int) 0 0 (.inl (some (vi r.1)), r.2) h 19 [(0, vr (some this))] [] := by
  unfold fX6_bit_19 at hf
  refine nd_aload_n (j := 0) dX6_bit_19 rfl rfl ?_
  refine nd_dup dX6_bit_20 rfl ?_
  refine nd_getI (k := 47) dX6_bit_21 k_this rfl (Nat.le_of_ble_eq_true rfl) (nd_flO q1387) rfl ?_
  refine nd_iconst (v := 1) dX6_bit_24 (by decide) ?_
  refine nd_iadd dX6_bit_25 ?_
  refine nd_putN (k := 47) dX6_bit_26 k_this rfl (Nat.le_of_ble_eq_true rfl) (nd_flO q1387) rfl rfl rfl ?_
  replace hf := bnE hf
  obtain ⟨h1, e_h1, hf⟩ := hf
  refine nd_hp e_h1 ?_
  refine nd_aload_n (j := 0) dX6_bit_29 rfl rfl ?_
  refine nd_getI (k := 49) dX6_bit_30 k_this rfl (Nat.le_of_ble_eq_true rfl) (nd_flO q1389) rfl ?_
  refine nd_if_eq (tgt := 68) dX6_bit_33 (by decide) (fun c2 => ?_) (fun c2 => ?_)
  · replace hf := ifp c2 hf
    refine nd_iconst (v := 0) dX6_bit_68 (by decide) ?_
    cases hf
    exact nd_iret (v := 0) dX6_bit_69
  · replace hf := ifn c2 hf
    refine nd_aload_n (j := 0) dX6_bit_36 rfl rfl ?_
    refine nd_getP (k := 32) dX6_bit_37 k_this rfl (Nat.le_of_ble_eq_true rfl) (nd_flO q1372) rfl (fun ok3 => ?_)
    replace hf := nnE hf
    obtain ⟨a4, e_a4, hf⟩ := hf
    refine nd_topr e_a4.symm ?_
    have k_a4 : nd_Kd a4 = 20 := nd_c1 (ok3 a4 e_a4)
    refine nd_aload_n (j := 0) dX6_bit_40 rfl rfl ?_
    refine nd_getI (k := 47) dX6_bit_41 k_this rfl (Nat.le_of_ble_eq_true rfl) (nd_flO q1387) rfl ?_
    refine nd_iconst (v := 1) dX6_bit_44 (by decide) ?_
    refine nd_isub dX6_bit_45 ?_
    refine nd_bipush (v := 8) dX6_bit_46 (by decide) ?_
    refine nd_idiv dX6_bit_48 (by decide) ?_
    replace hf := ckE hf
    obtain ⟨c5, hf⟩ := hf
    refine nd_iald dX6_bit_49 k_a4 c5 ?_
    refine nd_bipush (v := 7) dX6_bit_50 (by decide) ?_
    refine nd_aload_n (j := 0) dX6_bit_52 rfl rfl ?_
    refine nd_getI (k := 47) dX6_bit_53 k_this rfl (Nat.le_of_ble_eq_true rfl) (nd_flO q1387) rfl ?_
    refine nd_iconst (v := 1) dX6_bit_56 (by decide) ?_
    refine nd_isub dX6_bit_57 ?_
    refine nd_bipush (v := 8) dX6_bit_58 (by decide) ?_
    replace hf := bnE hf
    obtain ⟨v6, e_v6, hf⟩ := hf
    refine nd_top2 e_v6 ?_
    refine nd_irem dX6_bit_60 (by decide) ?_
    refine nd_isub dX6_bit_61 ?_
    refine nd_ishr dX6_bit_62 ?_
    refine nd_iconst (v := 1) dX6_bit_63 (by decide) ?_
    refine nd_iand dX6_bit_64 ?_
    refine nd_goto (tgt := 69) dX6_bit_65 (by decide) ?_
    cases hf
    exact nd_iret (v := (((gA h1 a4 (Int32.toNatClampNeg (((gI h1 647 this) - 1) / 8))) >>> ((7 - (v6 - v6 / 8 * 8)) &&& 31)) &&& 1)) dX6_bit_69
set_option maxHeartbeats 4000000 in
theorem tX6_bit (l : Launch) (w : Wd) (hfl : l.stackTraces = false) (F d : Nat) {this : Nat} (k_this : nd_Kd this = 5) {h : Hp} {r : Int32 × Hp} (hf : fX6_bit F d this h = some r) : nd_C l w yX6_bit cX6_bit 1 (some .int) 0 0 [vr (some this)] h (.inl (some (vi r.1)), r.2) := by
  refine nd_start (as := [vr (some this)]) hfl (by decide) (Nat.le_of_ble_eq_true rfl) ?_
  unfold fX6_bit at hf
  refine nd_eqL (L' := [(0, vr (some this))]) rfl ?_
  refine nd_aload_n (j := 0) dX6_bit_0 rfl rfl ?_
  refine nd_getI (k := 47) dX6_bit_1 k_this rfl (Nat.le_of_ble_eq_true rfl) (nd_flO q1387) rfl ?_
  refine nd_bipush (v := 8) dX6_bit_4 (by decide) ?_
  refine nd_aload_n (j := 0) dX6_bit_6 rfl rfl ?_
  refine nd_getI (k := 28) dX6_bit_7 k_this rfl (Nat.le_of_ble_eq_true rfl) (nd_flO q1368) rfl ?_
  refine nd_imul dX6_bit_10 ?_
  refine nd_icmp_lt (tgt := 19) dX6_bit_11 (by decide) (fun c1 => ?_) (fun c1 => ?_)
  · replace hf := ifp c1 hf
    exact nd_loc [0] rfl (tX6_bit_19 l w hfl F d r _ k_this _ hf)
  · replace hf := ifn c1 hf
    refine nd_aload_n (j := 0) dX6_bit_14 rfl rfl ?_
    refine nd_iconst (v := 0) dX6_bit_15 (by decide) ?_
    refine nd_putZ (k := 49) (by decide) dX6_bit_16 k_this rfl (Nat.le_of_ble_eq_true rfl) (nd_flO q1389) rfl rfl rfl ?_
    replace hf := bnE hf
    obtain ⟨h2, e_h2, hf⟩ := hf
    refine nd_hp e_h2 ?_
    exact nd_loc [0] rfl (tX6_bit_19 l w hfl F d r _ k_this _ hf)
def fX6_some_4 (F d : Nat) : Nat → Nat → Int32 → Int32 → Int32 → Hp → Option (Int32 × Hp)
  | 0, _, _, _, _, _ => none
  | n + 1, this, x1, x2, x3, h =>
    if x1 ≤ x3 then
    (some (x2, h))
    else
    (if (gI h 649 this) = 0 then
    (some (x2, h))
    else
    (ca (fX6_bit F d this h) fun v4 h3 => (
    bn ((2 * x2) + v4) fun v5 => (
    bn (x3 + 1) fun v6 => (
    fX6_some_4 F d n this x1 v5 v6 h3)))))
def fX6_some (F d : Nat) (this : Nat) (p0 : Int32) (h : Hp) : Option (Int32 × Hp) :=
  fX6_some_4 F d F this p0 0 0 h
theorem mw_X6_some : nd_MW yX6_some cX6_some 4 (some .int) 1 := ⟨q1693, q91, by decide, by decide, by decide +kernel⟩
set_option maxHeartbeats 4000000 in
theorem tX6_some_4 (l : Launch) (w : Wd) (hfl : l.stackTraces = false) (F d : Nat) (r : Int32 × Hp) : ∀ (n : Nat) (this : Nat) (x1 : Int32) (x2 : Int32) (x3 : Int32) (k_this : nd_Kd this = 5) (h : Hp), fX6_some_4 F d n this x1 x2 x3 h = some r → nd_V l w yX6_some cX6_some 4 (some .int) 1 20 (.inl (some (vi r.1)), r.2) h 4 [(0, vr (some this)), (1, vi x1), (2, vi x2), (3, vi x3)] [] := by
  intro n
  induction n with
  | zero => intro _ _ _ _ _ _ hf; cases hf
  | succ n ih =>
    intro this x1 x2 x3 k_this h hf
    unfold fX6_some_4 at hf
    refine nd_iload_n (j := 3) dX6_some_4 rfl rfl ?_
    refine nd_iload_n (j := 1) dX6_some_5 rfl rfl ?_
    refine nd_icmp_ge (tgt := 31) dX6_some_6 (by decide) (fun c1 => ?_) (fun c1 => ?_)
    · replace hf := ifp c1 hf
      refine nd_iload_n (j := 2) dX6_some_31 rfl rfl ?_
      cases hf
      exact nd_iret (v := x2) dX6_some_32
    · replace hf := ifn c1 hf
      refine nd_aload_n (j := 0) dX6_some_9 rfl rfl ?_
      refine nd_getI (k := 49) dX6_some_10 k_this rfl (Nat.le_of_ble_eq_true rfl) (nd_flO q1389) rfl ?_
      refine nd_if_eq (tgt := 31) dX6_some_13 (by decide) (fun c2 => ?_) (fun c2 => ?_)
      · replace hf := ifp c2 hf
        refine nd_iload_n (j := 2) dX6_some_31 rfl rfl ?_
        cases hf
        exact nd_iret (v := x2) dX6_some_32
      · replace hf := ifn c2 hf
        refine nd_iconst (v := 2) dX6_some_16 (by decide) ?_
        refine nd_iload_n (j := 2) dX6_some_17 rfl rfl ?_
        refine nd_imul dX6_some_18 ?_
        refine nd_aload_n (j := 0) dX6_some_19 rfl rfl ?_
        replace hf := caE hf
        obtain ⟨v4, h3, e_h3, hf⟩ := hf
        refine nd_Vi [vi (2 * x2)] (tX6_bit l w hfl F d k_this e_h3) rfl dX6_some_20 mw_X6_bit (Or.inl q1694) k_this rfl q1696 qs62 (by omega) (by omega) (Nat.le_of_ble_eq_true rfl) ?_
        refine nd_iadd dX6_some_23 ?_
        replace hf := bnE hf
        obtain ⟨v5, e_v5, hf⟩ := hf
        refine nd_top e_v5 ?_
        refine nd_istore_n [(2, vi v5), (0, vr (some this)), (1, vi x1), (3, vi x3)] dX6_some_24 rfl (Nat.le_of_ble_eq_true rfl) rfl ?_
        replace hf := bnE hf
        obtain ⟨v6, e_v6, hf⟩ := hf
        refine nd_iinc (v := v6) (j := 3) [(3, vi v6), (2, vi v5), (0, vr (some this)), (1, vi x1)] dX6_some_25 rfl (by rw [e_v6]; rfl) (Nat.le_of_ble_eq_true rfl) rfl ?_
        refine nd_goto (tgt := 4) dX6_some_28 (by decide) ?_
        exact nd_loc [2, 3, 1, 0] rfl (ih _ _ _ _ k_this _ hf)
set_option maxHeartbeats 4000000 in
theorem tX6_some (l : Launch) (w : Wd) (hfl : l.stackTraces = false) (F d : Nat) {this : Nat} {p0 : Int32} (k_this : nd_Kd this = 5) {h : Hp} {r : Int32 × Hp} (hf : fX6_some F d this p0 h = some r) : nd_C l w yX6_some cX6_some 4 (some .int) 1 20 [vr (some this), vi p0] h (.inl (some (vi r.1)), r.2) := by
  refine nd_start (as := [vr (some this), vi p0]) hfl (by decide) (Nat.le_of_ble_eq_true rfl) ?_
  unfold fX6_some at hf
  refine nd_eqL (L' := [(0, vr (some this)), (1, vi p0)]) rfl ?_
  refine nd_iconst (v := 0) dX6_some_0 (by decide) ?_
  refine nd_istore_n [(2, vi 0), (0, vr (some this)), (1, vi p0)] dX6_some_1 rfl (Nat.le_of_ble_eq_true rfl) rfl ?_
  refine nd_iconst (v := 0) dX6_some_2 (by decide) ?_
  refine nd_istore_n [(3, vi 0), (2, vi 0), (0, vr (some this)), (1, vi p0)] dX6_some_3 rfl (Nat.le_of_ble_eq_true rfl) rfl ?_
  exact nd_loc [2, 3, 1, 0] rfl (tX6_some_4 l w hfl F d r F _ _ _ _ k_this _ hf)
def fX6_ranging_60 (F d : Nat) (x1 : Int32) (x4 : Int32) (h : Hp) : Option (Int32 × Hp) :=
  some ((x1 + x4), h)
def fX6_ranging_44 (F d : Nat) (this : Nat) (x1 : Int32) (x3 : Int32) (s0 : Nat) (s1 : Int32) (h : Hp) : Option (Int32 × Hp) :=
  ca (fX6_some F d s0 s1 h) fun v2 h1 => (
  if v2 ≤ x3 then
  (fX6_ranging_60 F d x1 v2 h1)
  else
  (bn (sI h1 649 this 0) fun h4 => (
  fX6_ranging_60 F d x1 v2 h4)))
def fX6_ranging_15 (F d : Nat) (this : Nat) (x1 : Int32) (x3 : Int32) (h : Hp) : Option (Int32 × Hp) :=
  if 255 ≤ x3 then
  (if x3 = 255 then
  (fX6_ranging_44 F d this x1 x3 this 8 h)
  else
  (fX6_ranging_44 F d this x1 x3 this 16 h))
  else
  (ca (fX6_width F d x3 h) fun v4 h3 => (
  fX6_ranging_44 F d this x1 x3 this v4 h3))
def fX6_ranging (F d : Nat) (this : Nat) (p0 : Int32) (p1 : Int32) (h : Hp) : Option (Int32 × Hp) :=
  bn (p1 - p0) fun v1 => (
  if v1 ≤ 254 then
  (fX6_ranging_15 F d this p0 v1 h)
  else
  (cv (fX6_align F d this h) fun h3 => (
  fX6_ranging_15 F d this p0 v1 h3)))
theorem mw_X6_ranging : nd_MW yX6_ranging cX6_ranging 5 (some .int) 2 := ⟨q1682, q91, by decide, by decide, by decide +kernel⟩
set_option maxHeartbeats 4000000 in
theorem tX6_ranging_60 (l : Launch) (w : Wd) (hfl : l.stackTraces = false) (F d : Nat) (r : Int32 × Hp) (x1 : Int32) (x4 : Int32)  (h : Hp) (hf : fX6_ranging_60 F d x1 x4 h = some r) : nd_V l w yX6_ranging cX6_ranging 5 (some .int) 2 43 (.inl (some (vi r.1)), r.2) h 60 [(1, vi x1), (4, vi x4)] [] := by
  unfold fX6_ranging_60 at hf
  refine nd_iload_n (j := 0) dX6_ranging_60 rfl rfl ?_
  refine nd_iload (j := 1) dX6_ranging_61 rfl ?_
  refine nd_iadd dX6_ranging_63 ?_
  cases hf
  exact nd_iret (v := (x1 + x4)) dX6_ranging_64
set_option maxHeartbeats 4000000 in
theorem tX6_ranging_44 (l : Launch) (w : Wd) (hfl : l.stackTraces = false) (F d : Nat) (r : Int32 × Hp) (this : Nat) (x1 : Int32) (x3 : Int32) (s0 : Nat) (s1 : Int32) (k_this : nd_Kd this = 5) (k_s0 : nd_Kd s0 = 5) (h : Hp) (hf : fX6_ranging_44 F d this x1 x3 s0 s1 h = some r) : nd_V l w yX6_ranging cX6_ranging 5 (some .int) 2 43 (.inl (some (vi r.1)), r.2) h 44 [(0, vr (some this)), (1, vi x1), (3, vi x3)] [vi s1, vr (some s0)] := by
  unfold fX6_ranging_44 at hf
  replace hf := caE hf
  obtain ⟨v2, h1, e_h1, hf⟩ := hf
  refine nd_Vi [] (tX6_some l w hfl F d k_s0 e_h1) rfl dX6_ranging_44 mw_X6_some (Or.inl q1690) k_s0 rfl q1692 qs61 (by omega) (by omega) (Nat.le_of_ble_eq_true rfl) ?_
  refine nd_istore [(4, vi v2), (0, vr (some this)), (1, vi x1), (3, vi x3)] dX6_ranging_47 (Nat.le_of_ble_eq_true rfl) rfl ?_
  refine nd_iload (j := 0) dX6_ranging_49 rfl ?_
  refine nd_iload_n (j := 3) dX6_ranging_51 rfl rfl ?_
  refine nd_icmp_le (tgt := 60) dX6_ranging_52 (by decide) (fun c3 => ?_) (fun c3 => ?_)
  · replace hf := ifp c3 hf
    exact nd_loc [2, 0] rfl (tX6_ranging_60 l w hfl F d r _ _ _ hf)
  · replace hf := ifn c3 hf
    refine nd_aload_n (j := 1) dX6_ranging_55 rfl rfl ?_
    refine nd_iconst (v := 0) dX6_ranging_56 (by decide) ?_
    refine nd_putZ (k := 49) (by decide) dX6_ranging_57 k_this rfl (Nat.le_of_ble_eq_true rfl) (nd_flO q1389) rfl rfl rfl ?_
    replace hf := bnE hf
    obtain ⟨h4, e_h4, hf⟩ := hf
    refine nd_hp e_h4 ?_
    exact nd_loc [2, 0] rfl (tX6_ranging_60 l w hfl F d r _ _ _ hf)
set_option maxHeartbeats 4000000 in
theorem tX6_ranging_15 (l : Launch) (w : Wd) (hfl : l.stackTraces = false) (F d : Nat) (r : Int32 × Hp) (this : Nat) (x1 : Int32) (x3 : Int32) (k_this : nd_Kd this = 5) (h : Hp) (hf : fX6_ranging_15 F d this x1 x3 h = some r) : nd_V l w yX6_ranging cX6_ranging 5 (some .int) 2 43 (.inl (some (vi r.1)), r.2) h 15 [(0, vr (some this)), (1, vi x1), (3, vi x3)] [] := by
  unfold fX6_ranging_15 at hf
  refine nd_aload_n (j := 0) dX6_ranging_15 rfl rfl ?_
  refine nd_iload_n (j := 2) dX6_ranging_16 rfl rfl ?_
  refine nd_sipush (v := 255) dX6_ranging_17 (by decide) ?_
  refine nd_icmp_ge (tgt := 30) dX6_ranging_20 (by decide) (fun c1 => ?_) (fun c1 => ?_)
  · replace hf := ifp c1 hf
    refine nd_iload_n (j := 2) dX6_ranging_30 rfl rfl ?_
    refine nd_sipush (v := 255) dX6_ranging_31 (by decide) ?_
    refine nd_icmp_ne (tgt := 42) dX6_ranging_34 (by decide) (fun c2 => ?_) (fun c2 => ?_)
    · replace hf := ifn c2 hf
      refine nd_bipush (v := 16) dX6_ranging_42 (by decide) ?_
      exact nd_loc [0, 1, 2] rfl (tX6_ranging_44 l w hfl F d r _ _ _ _ _ k_this k_this _ hf)
    · replace hf := ifp c2 hf
      refine nd_bipush (v := 8) dX6_ranging_37 (by decide) ?_
      refine nd_goto (tgt := 44) dX6_ranging_39 (by decide) ?_
      exact nd_loc [0, 1, 2] rfl (tX6_ranging_44 l w hfl F d r _ _ _ _ _ k_this k_this _ hf)
  · replace hf := ifn c1 hf
    refine nd_iload_n (j := 2) dX6_ranging_23 rfl rfl ?_
    replace hf := caE hf
    obtain ⟨v4, h3, e_h3, hf⟩ := hf
    refine nd_Si [vr (some this)] (tX6_width l w hfl F d e_h3) rfl dX6_ranging_24 mw_X6_width (Or.inl q1687) q1688 (by omega) (by omega) (Nat.le_of_ble_eq_true rfl) ?_
    refine nd_goto (tgt := 44) dX6_ranging_27 (by decide) ?_
    exact nd_loc [0, 1, 2] rfl (tX6_ranging_44 l w hfl F d r _ _ _ _ _ k_this k_this _ hf)
set_option maxHeartbeats 4000000 in
theorem tX6_ranging (l : Launch) (w : Wd) (hfl : l.stackTraces = false) (F d : Nat) {this : Nat} {p0 : Int32} {p1 : Int32} (k_this : nd_Kd this = 5) {h : Hp} {r : Int32 × Hp} (hf : fX6_ranging F d this p0 p1 h = some r) : nd_C l w yX6_ranging cX6_ranging 5 (some .int) 2 43 [vr (some this), vi p0, vi p1] h (.inl (some (vi r.1)), r.2) := by
  refine nd_start (as := [vr (some this), vi p0, vi p1]) hfl (by decide) (Nat.le_of_ble_eq_true rfl) ?_
  unfold fX6_ranging at hf
  refine nd_eqL (L' := [(0, vr (some this)), (1, vi p0), (2, vi p1)]) rfl ?_
  refine nd_iload_n (j := 2) dX6_ranging_0 rfl rfl ?_
  refine nd_iload_n (j := 1) dX6_ranging_1 rfl rfl ?_
  refine nd_isub dX6_ranging_2 ?_
  replace hf := bnE hf
  obtain ⟨v1, e_v1, hf⟩ := hf
  refine nd_top e_v1 ?_
  refine nd_istore_n [(3, vi v1), (0, vr (some this)), (1, vi p0), (2, vi p1)] dX6_ranging_3 rfl (Nat.le_of_ble_eq_true rfl) rfl ?_
  refine nd_iload_n (j := 0) dX6_ranging_4 rfl rfl ?_
  refine nd_sipush (v := 254) dX6_ranging_5 (by decide) ?_
  refine nd_icmp_le (tgt := 15) dX6_ranging_8 (by decide) (fun c2 => ?_) (fun c2 => ?_)
  · replace hf := ifp c2 hf
    exact nd_loc [1, 2, 0] rfl (tX6_ranging_15 l w hfl F d r _ _ _ k_this _ hf)
  · replace hf := ifn c2 hf
    refine nd_aload_n (j := 1) dX6_ranging_11 rfl rfl ?_
    replace hf := cvE hf
    obtain ⟨h3, e_h3, hf⟩ := hf
    refine nd_Vv [] (tX6_align l w hfl F d k_this e_h3) rfl dX6_ranging_12 mw_X6_align (Or.inl q1683) k_this rfl q1685 qs60 (by omega) (by omega) (Nat.le_of_ble_eq_true rfl) ?_
    exact nd_loc [1, 2, 0] rfl (tX6_ranging_15 l w hfl F d r _ _ _ k_this _ hf)
def fX6_rank_83 (F d : Nat) (k_26 : Nat → Int32 → Int32 → Int32 → Int32 → Hp → Option (Int32 × Hp)) (this : Nat) (x1 : Int32) (x4 : Int32) (x5 : Int32) (s0 : Int32) (s1 : Int32) (h : Hp) : Option (Int32 × Hp) :=
  bn (s0 + s1) fun v1 => (
  bn (x5 + 1) fun v2 => (
  k_26 this x1 v1 x4 v2 h))
def fX6_rank_26 (F d : Nat) : Nat → Nat → Int32 → Int32 → Int32 → Int32 → Hp → Option (Int32 × Hp)
  | 0, _, _, _, _, _, _ => none
  | n + 1, this, x1, x3, x4, x5, h =>
    nn (gP h 615 this) fun a2 => (
    ck (inb x1 (nd_Ln a2)) (
    if ((6 * x1) + (gA h a2 (Int32.toNatClampNeg x1))) ≤ x5 then
    (some (x3, h))
    else
    (nn (gP h 616 this) fun a6 => (
    nn (gP h 620 this) fun a8 => (
    ck (inb x5 (nd_Ln a8)) (
    ck (inb (gA h a8 (Int32.toNatClampNeg x5)) (nd_Ln a6)) (
    nn (gP h 616 this) fun a12 => (
    nn (gP h 620 this) fun a14 => (
    ck (inb x5 (nd_Ln a14)) (
    ck (inb (gA h a14 (Int32.toNatClampNeg x5)) (nd_Ln a12)) (
    if (x4 &&& (-x4)) ≤ ((gA h a6 (Int32.toNatClampNeg (gA h a8 (Int32.toNatClampNeg x5)))) &&& (-(gA h a12 (Int32.toNatClampNeg (gA h a14 (Int32.toNatClampNeg x5)))))) then
    (fX6_rank_83 F d (fX6_rank_26 F d n) this x1 x4 x5 x3 0 h)
    else
    (fX6_rank_83 F d (fX6_rank_26 F d n) this x1 x4 x5 x3 1 h))))))))))))
def fX6_rank (F d : Nat) (this : Nat) (p0 : Int32) (p1 : Int32) (h : Hp) : Option (Int32 × Hp) :=
  nn (gP h 616 this) fun a2 => (
  nn (gP h 620 this) fun a4 => (
  ck (inb ((6 * p0) + p1) (nd_Ln a4)) (
  ck (inb (gA h a4 (Int32.toNatClampNeg ((6 * p0) + p1))) (nd_Ln a2)) (
  bn (gA h a2 (Int32.toNatClampNeg (gA h a4 (Int32.toNatClampNeg ((6 * p0) + p1))))) fun v7 => (
  bn (6 * p0) fun v8 => (
  fX6_rank_26 F d F this p0 0 v7 v8 h))))))
theorem mw_X6_rank : nd_MW yX6_rank cX6_rank 6 (some .int) 2 := ⟨q1701, q91, by decide, by decide, by decide +kernel⟩
set_option maxHeartbeats 4000000 in
theorem tX6_rank_83 (l : Launch) (w : Wd) (hfl : l.stackTraces = false) (F d : Nat) (r : Int32 × Hp) (k_26 : Nat → Int32 → Int32 → Int32 → Int32 → Hp → Option (Int32 × Hp)) (hk_26 : ∀ (this : Nat) (x1 : Int32) (x3 : Int32) (x4 : Int32) (x5 : Int32) (k_this : nd_Kd this = 5) (h : Hp), k_26 this x1 x3 x4 x5 h = some r → nd_V l w yX6_rank cX6_rank 6 (some .int) 0 0 (.inl (some (vi r.1)), r.2) h 26 [(0, vr (some this)), (1, vi x1), (3, vi x3), (4, vi x4), (5, vi x5)] []) (this : Nat) (x1 : Int32) (x4 : Int32) (x5 : Int32) (s0 : Int32) (s1 : Int32) (k_this : nd_Kd this = 5) (h : Hp) (hf : fX6_rank_83 F d k_26 this x1 x4 x5 s0 s1 h = some r) : nd_V l w yX6_rank cX6_rank 6 (some .int) 0 0 (.inl (some (vi r.1)), r.2) h 83 [(0, vr (some this)), (1, vi x1), (4, vi x4), (5, vi x5)] [vi s1, vi s0] := by
  unfold fX6_rank_83 at hf
  refine nd_iadd dX6_rank_83 ?_
  replace hf := bnE hf
  obtain ⟨v1, e_v1, hf⟩ := hf
  refine nd_top e_v1 ?_
  refine nd_istore_n [(3, vi v1), (0, vr (some this)), (1, vi x1), (4, vi x4), (5, vi x5)] dX6_rank_84 rfl (Nat.le_of_ble_eq_true rfl) rfl ?_
  replace hf := bnE hf
  obtain ⟨v2, e_v2, hf⟩ := hf
  refine nd_iinc (v := v2) (j := 4) [(5, vi v2), (3, vi v1), (0, vr (some this)), (1, vi x1), (4, vi x4)] dX6_rank_85 rfl (by rw [e_v2]; rfl) (Nat.le_of_ble_eq_true rfl) rfl ?_
  refine nd_goto (tgt := 26) dX6_rank_88 (by decide) ?_
  exact nd_loc [2, 3, 1, 4, 0] rfl (hk_26 _ _ _ _ _ k_this _ hf)
set_option maxHeartbeats 4000000 in
theorem tX6_rank_26 (l : Launch) (w : Wd) (hfl : l.stackTraces = false) (F d : Nat) (r : Int32 × Hp) : ∀ (n : Nat) (this : Nat) (x1 : Int32) (x3 : Int32) (x4 : Int32) (x5 : Int32) (k_this : nd_Kd this = 5) (h : Hp), fX6_rank_26 F d n this x1 x3 x4 x5 h = some r → nd_V l w yX6_rank cX6_rank 6 (some .int) 0 0 (.inl (some (vi r.1)), r.2) h 26 [(0, vr (some this)), (1, vi x1), (3, vi x3), (4, vi x4), (5, vi x5)] [] := by
  intro n
  induction n with
  | zero => intro _ _ _ _ _ _ _ hf; cases hf
  | succ n ih =>
    intro this x1 x3 x4 x5 k_this h hf
    unfold fX6_rank_26 at hf
    refine nd_iload (j := 4) dX6_rank_26 rfl ?_
    refine nd_bipush (v := 6) dX6_rank_28 (by decide) ?_
    refine nd_iload_n (j := 1) dX6_rank_30 rfl rfl ?_
    refine nd_imul dX6_rank_31 ?_
    refine nd_aload_n (j := 0) dX6_rank_32 rfl rfl ?_
    refine nd_getP (k := 15) dX6_rank_33 k_this rfl (Nat.le_of_ble_eq_true rfl) (nd_flO q1355) rfl (fun ok1 => ?_)
    replace hf := nnE hf
    obtain ⟨a2, e_a2, hf⟩ := hf
    refine nd_topr e_a2.symm ?_
    have k_a2 : nd_Kd a2 = 20 := nd_c1 (ok1 a2 e_a2)
    refine nd_iload_n (j := 1) dX6_rank_36 rfl rfl ?_
    replace hf := ckE hf
    obtain ⟨c3, hf⟩ := hf
    refine nd_iald dX6_rank_37 k_a2 c3 ?_
    refine nd_iadd dX6_rank_38 ?_
    refine nd_icmp_ge (tgt := 91) dX6_rank_39 (by decide) (fun c4 => ?_) (fun c4 => ?_)
    · replace hf := ifp c4 hf
      refine nd_iload_n (j := 2) dX6_rank_91 rfl rfl ?_
      cases hf
      exact nd_iret (v := x3) dX6_rank_92
    · replace hf := ifn c4 hf
      refine nd_iload_n (j := 2) dX6_rank_42 rfl rfl ?_
      refine nd_aload_n (j := 0) dX6_rank_43 rfl rfl ?_
      refine nd_getP (k := 16) dX6_rank_44 k_this rfl (Nat.le_of_ble_eq_true rfl) (nd_flO q1356) rfl (fun ok5 => ?_)
      replace hf := nnE hf
      obtain ⟨a6, e_a6, hf⟩ := hf
      refine nd_topr e_a6.symm ?_
      have k_a6 : nd_Kd a6 = 20 := nd_c1 (ok5 a6 e_a6)
      refine nd_aload_n (j := 0) dX6_rank_47 rfl rfl ?_
      refine nd_getP (k := 20) dX6_rank_48 k_this rfl (Nat.le_of_ble_eq_true rfl) (nd_flO q1360) rfl (fun ok7 => ?_)
      replace hf := nnE hf
      obtain ⟨a8, e_a8, hf⟩ := hf
      refine nd_topr e_a8.symm ?_
      have k_a8 : nd_Kd a8 = 20 := nd_c1 (ok7 a8 e_a8)
      refine nd_iload (j := 4) dX6_rank_51 rfl ?_
      replace hf := ckE hf
      obtain ⟨c9, hf⟩ := hf
      refine nd_iald dX6_rank_53 k_a8 c9 ?_
      replace hf := ckE hf
      obtain ⟨c10, hf⟩ := hf
      refine nd_iald dX6_rank_54 k_a6 c10 ?_
      refine nd_aload_n (j := 0) dX6_rank_55 rfl rfl ?_
      refine nd_getP (k := 16) dX6_rank_56 k_this rfl (Nat.le_of_ble_eq_true rfl) (nd_flO q1356) rfl (fun ok11 => ?_)
      replace hf := nnE hf
      obtain ⟨a12, e_a12, hf⟩ := hf
      refine nd_topr e_a12.symm ?_
      have k_a12 : nd_Kd a12 = 20 := nd_c1 (ok11 a12 e_a12)
      refine nd_aload_n (j := 0) dX6_rank_59 rfl rfl ?_
      refine nd_getP (k := 20) dX6_rank_60 k_this rfl (Nat.le_of_ble_eq_true rfl) (nd_flO q1360) rfl (fun ok13 => ?_)
      replace hf := nnE hf
      obtain ⟨a14, e_a14, hf⟩ := hf
      refine nd_topr e_a14.symm ?_
      have k_a14 : nd_Kd a14 = 20 := nd_c1 (ok13 a14 e_a14)
      refine nd_iload (j := 4) dX6_rank_63 rfl ?_
      replace hf := ckE hf
      obtain ⟨c15, hf⟩ := hf
      refine nd_iald dX6_rank_65 k_a14 c15 ?_
      replace hf := ckE hf
      obtain ⟨c16, hf⟩ := hf
      refine nd_iald dX6_rank_66 k_a12 c16 ?_
      refine nd_ineg dX6_rank_67 ?_
      refine nd_iand dX6_rank_68 ?_
      refine nd_iload (j := 3) dX6_rank_69 rfl ?_
      refine nd_iload (j := 3) dX6_rank_71 rfl ?_
      refine nd_ineg dX6_rank_73 ?_
      refine nd_iand dX6_rank_74 ?_
      refine nd_icmp_ge (tgt := 82) dX6_rank_75 (by decide) (fun c17 => ?_) (fun c17 => ?_)
      · replace hf := ifp c17 hf
        refine nd_iconst (v := 0) dX6_rank_82 (by decide) ?_
        exact nd_loc [0, 1, 3, 4] rfl (tX6_rank_83 l w hfl F d r (fX6_rank_26 F d n) ih _ _ _ _ _ _ k_this _ hf)
      · replace hf := ifn c17 hf
        refine nd_iconst (v := 1) dX6_rank_78 (by decide) ?_
        refine nd_goto (tgt := 83) dX6_rank_79 (by decide) ?_
        exact nd_loc [0, 1, 3, 4] rfl (tX6_rank_83 l w hfl F d r (fX6_rank_26 F d n) ih _ _ _ _ _ _ k_this _ hf)
set_option maxHeartbeats 4000000 in
theorem tX6_rank (l : Launch) (w : Wd) (hfl : l.stackTraces = false) (F d : Nat) {this : Nat} {p0 : Int32} {p1 : Int32} (k_this : nd_Kd this = 5) {h : Hp} {r : Int32 × Hp} (hf : fX6_rank F d this p0 p1 h = some r) : nd_C l w yX6_rank cX6_rank 6 (some .int) 0 0 [vr (some this), vi p0, vi p1] h (.inl (some (vi r.1)), r.2) := by
  refine nd_start (as := [vr (some this), vi p0, vi p1]) hfl (by decide) (Nat.le_of_ble_eq_true rfl) ?_
  unfold fX6_rank at hf
  refine nd_eqL (L' := [(0, vr (some this)), (1, vi p0), (2, vi p1)]) rfl ?_
  refine nd_iconst (v := 0) dX6_rank_0 (by decide) ?_
  refine nd_istore_n [(3, vi 0), (0, vr (some this)), (1, vi p0), (2, vi p1)] dX6_rank_1 rfl (Nat.le_of_ble_eq_true rfl) rfl ?_
  refine nd_aload_n (j := 1) dX6_rank_2 rfl rfl ?_
  refine nd_getP (k := 16) dX6_rank_3 k_this rfl (Nat.le_of_ble_eq_true rfl) (nd_flO q1356) rfl (fun ok1 => ?_)
  replace hf := nnE hf
  obtain ⟨a2, e_a2, hf⟩ := hf
  refine nd_topr e_a2.symm ?_
  have k_a2 : nd_Kd a2 = 20 := nd_c1 (ok1 a2 e_a2)
  refine nd_aload_n (j := 1) dX6_rank_6 rfl rfl ?_
  refine nd_getP (k := 20) dX6_rank_7 k_this rfl (Nat.le_of_ble_eq_true rfl) (nd_flO q1360) rfl (fun ok3 => ?_)
  replace hf := nnE hf
  obtain ⟨a4, e_a4, hf⟩ := hf
  refine nd_topr e_a4.symm ?_
  have k_a4 : nd_Kd a4 = 20 := nd_c1 (ok3 a4 e_a4)
  refine nd_bipush (v := 6) dX6_rank_10 (by decide) ?_
  refine nd_iload_n (j := 2) dX6_rank_12 rfl rfl ?_
  refine nd_imul dX6_rank_13 ?_
  refine nd_iload_n (j := 3) dX6_rank_14 rfl rfl ?_
  refine nd_iadd dX6_rank_15 ?_
  replace hf := ckE hf
  obtain ⟨c5, hf⟩ := hf
  refine nd_iald dX6_rank_16 k_a4 c5 ?_
  replace hf := ckE hf
  obtain ⟨c6, hf⟩ := hf
  refine nd_iald dX6_rank_17 k_a2 c6 ?_
  replace hf := bnE hf
  obtain ⟨v7, e_v7, hf⟩ := hf
  refine nd_top e_v7 ?_
  refine nd_istore [(4, vi v7), (3, vi 0), (0, vr (some this)), (1, vi p0), (2, vi p1)] dX6_rank_18 (Nat.le_of_ble_eq_true rfl) rfl ?_
  refine nd_bipush (v := 6) dX6_rank_20 (by decide) ?_
  refine nd_iload_n (j := 3) dX6_rank_22 rfl rfl ?_
  refine nd_imul dX6_rank_23 ?_
  replace hf := bnE hf
  obtain ⟨v8, e_v8, hf⟩ := hf
  refine nd_top e_v8 ?_
  refine nd_istore [(5, vi v8), (4, vi v7), (3, vi 0), (0, vr (some this)), (1, vi p0), (2, vi p1)] dX6_rank_24 (Nat.le_of_ble_eq_true rfl) rfl ?_
  exact nd_loc [3, 4, 2, 1, 0] rfl (tX6_rank_26 l w hfl F d r F _ _ _ _ _ k_this _ hf)
def fX6_counted (F d : Nat) (this : Nat) (p0 : Int32) (h : Hp) : Option (Int32 × Hp) :=
  nn (gP h 618 this) fun a2 => (
  ck (inb p0 (nd_Ln a2)) (
  if (gA h a2 (Int32.toNatClampNeg p0)) = 0 then
  (cv (fX6_align F d this h) fun h5 => (
  ca (fX6_some F d this 8 h5) fun v8 h7 => (
  if v8 ≤ 127 then
  (some (v8, h7))
  else
  (bn (sI h7 649 this 0) fun h10 => (
  some (v8, h10))))))
  else
  (nn (gP h 612 this) fun a12 => (
  ck (inb p0 (nd_Ln a12)) (
  nn (gP h 613 this) fun a15 => (
  ck (inb p0 (nd_Ln a15)) (
  ca (fX6_ranging F d this (gA h a12 (Int32.toNatClampNeg p0)) (gA h a15 (Int32.toNatClampNeg p0)) h) fun v18 h17 => (
  some (v18, h17)))))))))
theorem mw_X6_counted : nd_MW yX6_counted cX6_counted 3 (some .int) 1 := ⟨q1705, q91, by decide, by decide, by decide +kernel⟩
set_option maxHeartbeats 4000000 in
theorem tX6_counted (l : Launch) (w : Wd) (hfl : l.stackTraces = false) (F d : Nat) {this : Nat} {p0 : Int32} (k_this : nd_Kd this = 5) {h : Hp} {r : Int32 × Hp} (hf : fX6_counted F d this p0 h = some r) : nd_C l w yX6_counted cX6_counted 3 (some .int) 3 67 [vr (some this), vi p0] h (.inl (some (vi r.1)), r.2) := by
  refine nd_start (as := [vr (some this), vi p0]) hfl (by decide) (Nat.le_of_ble_eq_true rfl) ?_
  unfold fX6_counted at hf
  refine nd_eqL (L' := [(0, vr (some this)), (1, vi p0)]) rfl ?_
  refine nd_aload_n (j := 0) dX6_counted_0 rfl rfl ?_
  refine nd_getP (k := 18) dX6_counted_1 k_this rfl (Nat.le_of_ble_eq_true rfl) (nd_flO q1358) rfl (fun ok1 => ?_)
  replace hf := nnE hf
  obtain ⟨a2, e_a2, hf⟩ := hf
  refine nd_topr e_a2.symm ?_
  have k_a2 : nd_Kd a2 = 22 := nd_c1 (ok1 a2 e_a2)
  refine nd_iload_n (j := 1) dX6_counted_4 rfl rfl ?_
  replace hf := ckE hf
  obtain ⟨c3, hf⟩ := hf
  refine nd_zald dX6_counted_5 k_a2 c3 ?_
  refine nd_if_eq (tgt := 26) dX6_counted_6 (by decide) (fun c4 => ?_) (fun c4 => ?_)
  · replace hf := ifp c4 hf
    refine nd_aload_n (j := 0) dX6_counted_26 rfl rfl ?_
    replace hf := cvE hf
    obtain ⟨h5, e_h5, hf⟩ := hf
    refine nd_Vv [] (tX6_align l w hfl F d k_this e_h5) rfl dX6_counted_27 mw_X6_align (Or.inl q1683) k_this rfl q1685 qs60 (by omega) (by omega) (Nat.le_of_ble_eq_true rfl) ?_
    refine nd_aload_n (j := 0) dX6_counted_30 rfl rfl ?_
    refine nd_bipush (v := 8) dX6_counted_31 (by decide) ?_
    replace hf := caE hf
    obtain ⟨v8, h7, e_h7, hf⟩ := hf
    refine nd_Vi [] (tX6_some l w hfl F d k_this e_h7) rfl dX6_counted_33 mw_X6_some (Or.inl q1690) k_this rfl q1692 qs61 (by omega) (by omega) (Nat.le_of_ble_eq_true rfl) ?_
    refine nd_istore_n [(2, vi v8), (0, vr (some this)), (1, vi p0)] dX6_counted_36 rfl (Nat.le_of_ble_eq_true rfl) rfl ?_
    refine nd_iload_n (j := 0) dX6_counted_37 rfl rfl ?_
    refine nd_bipush (v := 127) dX6_counted_38 (by decide) ?_
    refine nd_icmp_le (tgt := 48) dX6_counted_40 (by decide) (fun c9 => ?_) (fun c9 => ?_)
    · replace hf := ifp c9 hf
      refine nd_iload_n (j := 0) dX6_counted_48 rfl rfl ?_
      cases hf
      exact nd_iret (v := v8) dX6_counted_49
    · replace hf := ifn c9 hf
      refine nd_aload_n (j := 1) dX6_counted_43 rfl rfl ?_
      refine nd_iconst (v := 0) dX6_counted_44 (by decide) ?_
      refine nd_putZ (k := 49) (by decide) dX6_counted_45 k_this rfl (Nat.le_of_ble_eq_true rfl) (nd_flO q1389) rfl rfl rfl ?_
      replace hf := bnE hf
      obtain ⟨h10, e_h10, hf⟩ := hf
      refine nd_hp e_h10 ?_
      refine nd_iload_n (j := 0) dX6_counted_48 rfl rfl ?_
      cases hf
      exact nd_iret (v := v8) dX6_counted_49
  · replace hf := ifn c4 hf
    refine nd_aload_n (j := 0) dX6_counted_9 rfl rfl ?_
    refine nd_aload_n (j := 0) dX6_counted_10 rfl rfl ?_
    refine nd_getP (k := 12) dX6_counted_11 k_this rfl (Nat.le_of_ble_eq_true rfl) (nd_flO q1352) rfl (fun ok11 => ?_)
    replace hf := nnE hf
    obtain ⟨a12, e_a12, hf⟩ := hf
    refine nd_topr e_a12.symm ?_
    have k_a12 : nd_Kd a12 = 20 := nd_c1 (ok11 a12 e_a12)
    refine nd_iload_n (j := 1) dX6_counted_14 rfl rfl ?_
    replace hf := ckE hf
    obtain ⟨c13, hf⟩ := hf
    refine nd_iald dX6_counted_15 k_a12 c13 ?_
    refine nd_aload_n (j := 0) dX6_counted_16 rfl rfl ?_
    refine nd_getP (k := 13) dX6_counted_17 k_this rfl (Nat.le_of_ble_eq_true rfl) (nd_flO q1353) rfl (fun ok14 => ?_)
    replace hf := nnE hf
    obtain ⟨a15, e_a15, hf⟩ := hf
    refine nd_topr e_a15.symm ?_
    have k_a15 : nd_Kd a15 = 20 := nd_c1 (ok14 a15 e_a15)
    refine nd_iload_n (j := 1) dX6_counted_20 rfl rfl ?_
    replace hf := ckE hf
    obtain ⟨c16, hf⟩ := hf
    refine nd_iald dX6_counted_21 k_a15 c16 ?_
    replace hf := caE hf
    obtain ⟨v18, h17, e_h17, hf⟩ := hf
    refine nd_Vi [] (tX6_ranging l w hfl F d k_this e_h17) rfl dX6_counted_22 mw_X6_ranging (Or.inl q1679) k_this rfl q1681 qs59 (by omega) (by omega) (Nat.le_of_ble_eq_true rfl) ?_
    cases hf
    exact nd_iret (v := v18) dX6_counted_25
def fX6_want_461 (F d : Nat) (this : Nat) (x7 : Int32) (x8 : Int32) (h : Hp) : Option (Hp) :=
  nn (gP h 637 this) fun a2 => (
  nn (gP h 611 this) fun a4 => (
  ck (inb x8 (nd_Ln a4)) (
  if (gA h a4 (Int32.toNatClampNeg x8)) = 7 then
  (ca (fX6_counted F d this x8 h) fun v10 h9 => (
  ck (inb x7 (nd_Ln a2)) (
  bn (sA h9 a2 (Int32.toNatClampNeg x7) v10) fun h12 => (
  some h12))))
  else
  (ck (inb x7 (nd_Ln a2)) (
  bn (sA h a2 (Int32.toNatClampNeg x7) 0) fun h8 => (
  some h8))))))
def fX6_want_453 (F d : Nat) (k_382 : Nat → Int32 → Int32 → Int32 → Hp → Option (Hp)) (this : Nat) (x7 : Int32) (x8 : Int32) (x9 : Int32) (s0 : Nat) (s1 : Int32) (s2 : Int32) (s3 : Int32) (h : Hp) : Option (Hp) :=
  ck (inb s1 (nd_Ln s0)) (
  bn (sA h s0 (Int32.toNatClampNeg s1) (s2 + s3)) fun h2 => (
  bn (x9 + 1) fun v3 => (
  k_382 this x7 x8 v3 h2)))
def fX6_want_382 (F d : Nat) : Nat → Nat → Int32 → Int32 → Int32 → Hp → Option (Hp)
  | 0, _, _, _, _, _ => none
  | n + 1, this, x7, x8, x9, h =>
    nn (gP h 615 this) fun a2 => (
    ck (inb x8 (nd_Ln a2)) (
    if ((6 * x8) + (gA h a2 (Int32.toNatClampNeg x8))) ≤ x9 then
    (fX6_want_461 F d this x7 x8 h)
    else
    (nn (gP h 611 this) fun a6 => (
    ck (inb x8 (nd_Ln a6)) (
    if (gA h a6 (Int32.toNatClampNeg x8)) = 6 then
    (nn (gP h 653 this) fun a10 => (
    nn (gP h 653 this) fun a12 => (
    ck (inb ((gI h 648 this) - 1) (nd_Ln a12)) (
    nn (gP h 621 this) fun a15 => (
    ck (inb x9 (nd_Ln a15)) (
    if (gA h a15 (Int32.toNatClampNeg x9)) = 0 then
    (fX6_want_453 F d (fX6_want_382 F d n) this x7 x8 x9 a10 ((gI h 648 this) - 1) (2 * (gA h a12 (Int32.toNatClampNeg ((gI h 648 this) - 1)))) 1 h)
    else
    (ca (fX6_bit F d this h) fun v19 h18 => (
    fX6_want_453 F d (fX6_want_382 F d n) this x7 x8 x9 a10 ((gI h 648 this) - 1) (2 * (gA h a12 (Int32.toNatClampNeg ((gI h 648 this) - 1)))) v19 h18))))))))
    else
    (fX6_want_461 F d this x7 x8 h))))))
def fX6_want_367 (F d : Nat) (this : Nat) (x7 : Int32) (x8 : Int32) (h : Hp) : Option (Hp) :=
  cv (fX6_frame F d this x7 0 0 h) fun h1 => (
  bn (6 * x8) fun v3 => (
  fX6_want_382 F d F this x7 x8 v3 h1))
def fX6_want_578 (F d : Nat) (this : Nat) (x7 : Int32) (x9 : Int32) (h : Hp) : Option (Hp) :=
  nn (gP h 637 this) fun a2 => (
  if (gI h 649 this) = 0 then
  (ck (inb x7 (nd_Ln a2)) (
  bn (sA h a2 (Int32.toNatClampNeg x7) 0) fun h5 => (
  some h5)))
  else
  (ca (fX6_some F d this (8 * x9) h) fun v7 h6 => (
  ck (inb x7 (nd_Ln a2)) (
  bn (sA h6 a2 (Int32.toNatClampNeg x7) ((v7 <<< ((32 - (8 * x9)) &&& 31)) >>> ((32 - (8 * x9)) &&& 31))) fun h9 => (
  some h9)))))
def fX6_want_573 (F d : Nat) (this : Nat) (x7 : Int32) (x9 : Int32) (h : Hp) : Option (Hp) :=
  bn (sI h 649 this 0) fun h1 => (
  fX6_want_578 F d this x7 x9 h1)
def fX6_want_336 (F d : Nat) (s0 : Nat) (s1 : Int32) (s2 : Int32) (h : Hp) : Option (Hp) :=
  bn (sI h 635 s0 (s1 + s2)) fun h1 => (
  some h1)
def fX6_want_313 (F d : Nat) (this : Nat) (x7 : Int32) (h : Hp) : Option (Hp) :=
  if (gI h 649 this) = 0 then
  (fX6_want_336 F d this (gI h 635 this) 0 h)
  else
  (nn (gP h 637 this) fun a3 => (
  ck (inb x7 (nd_Ln a3)) (
  fX6_want_336 F d this (gI h 635 this) (gA h a3 (Int32.toNatClampNeg x7)) h)))
def fX6_want_270 (F d : Nat) : Nat → Nat → Int32 → Int32 → Hp → Option (Hp)
  | 0, _, _, _, _ => none
  | n + 1, this, x7, x9, h =>
    nn (gP h 637 this) fun a2 => (
    ck (inb x7 (nd_Ln a2)) (
    if (gA h a2 (Int32.toNatClampNeg x7)) ≤ x9 then
    (fX6_want_313 F d this x7 h)
    else
    (if (gI h 649 this) = 0 then
    (fX6_want_313 F d this x7 h)
    else
    (nn (gP h 643 this) fun a7 => (
    ca (fX6_some F d this 8 h) fun v9 h8 => (
    ck (inb ((gI h 635 this) + x9) (nd_Ln a7)) (
    bn (sA h8 a7 (Int32.toNatClampNeg ((gI h 635 this) + x9)) v9) fun h11 => (
    bn (x9 + 1) fun v12 => (
    fX6_want_270 F d n this x7 v12 h11)))))))))
def fX6_want_267 (F d : Nat) (this : Nat) (x7 : Int32) (h : Hp) : Option (Hp) :=
  fX6_want_270 F d F this x7 0 h
def fX6_want_263 (F d : Nat) (this : Nat) (x7 : Int32) (h : Hp) : Option (Hp) :=
  cv (fX6_align F d this h) fun h1 => (
  fX6_want_267 F d this x7 h1)
def fX6_want_128 (F d : Nat) (this : Nat) (x4 : Int32) (x5 : Int32) (x6 : Int32) (h : Hp) : Option (Hp) :=
  ca (fX6_adds F d this x4 x5 x6 0 h) fun v2 h1 => (
  bn (gI h1 623 this) fun v3 => (
  if (gI h1 649 this) = 0 then
  (some h1)
  else
  (nn (gP h1 611 this) fun a6 => (
  ck (inb v3 (nd_Ln a6)) (
  if (gA h1 a6 (Int32.toNatClampNeg v3)) = 5 then
  (some h1)
  else
  (nn (gP h1 611 this) fun a10 => (
  ck (inb v3 (nd_Ln a10)) (
  if (gA h1 a10 (Int32.toNatClampNeg v3)) = 1 then
  (nn (gP h1 637 this) fun a75 => (
  ca (fX6_bit F d this h1) fun v77 h76 => (
  ck (inb v2 (nd_Ln a75)) (
  bn (sA h76 a75 (Int32.toNatClampNeg v2) v77) fun h79 => (
  some h79)))))
  else
  (nn (gP h1 611 this) fun a14 => (
  ck (inb v3 (nd_Ln a14)) (
  if (gA h1 a14 (Int32.toNatClampNeg v3)) = 4 then
  (nn (gP h1 637 this) fun a50 => (
  ca (fX6_counted F d this v3 h1) fun v52 h51 => (
  ck (inb v2 (nd_Ln a50)) (
  bn (sA h51 a50 (Int32.toNatClampNeg v2) v52) fun h54 => (
  nn (gP h54 618 this) fun a56 => (
  ck (inb v3 (nd_Ln a56)) (
  if (gA h54 a56 (Int32.toNatClampNeg v3)) = 0 then
  (fX6_want_267 F d this v2 h54)
  else
  (nn (gP h54 637 this) fun a60 => (
  ck (inb v2 (nd_Ln a60)) (
  if (gA h54 a60 (Int32.toNatClampNeg v2)) ≤ 0 then
  (fX6_want_267 F d this v2 h54)
  else
  (nn (gP h54 612 this) fun a64 => (
  ck (inb v3 (nd_Ln a64)) (
  nn (gP h54 613 this) fun a67 => (
  ck (inb v3 (nd_Ln a67)) (
  if (gA h54 a64 (Int32.toNatClampNeg v3)) = (gA h54 a67 (Int32.toNatClampNeg v3)) then
  (nn (gP h54 613 this) fun a71 => (
  ck (inb v3 (nd_Ln a71)) (
  if (gA h54 a71 (Int32.toNatClampNeg v3)) ≤ 2 then
  (fX6_want_267 F d this v2 h54)
  else
  (fX6_want_263 F d this v2 h54))))
  else
  (fX6_want_263 F d this v2 h54))))))))))))))))
  else
  (nn (gP h1 611 this) fun a18 => (
  ck (inb v3 (nd_Ln a18)) (
  if (gA h1 a18 (Int32.toNatClampNeg v3)) = 6 then
  (fX6_want_367 F d this v2 v3 h1)
  else
  (nn (gP h1 611 this) fun a22 => (
  ck (inb v3 (nd_Ln a22)) (
  if (gA h1 a22 (Int32.toNatClampNeg v3)) = 7 then
  (fX6_want_367 F d this v2 v3 h1)
  else
  (nn (gP h1 618 this) fun a26 => (
  ck (inb v3 (nd_Ln a26)) (
  if (gA h1 a26 (Int32.toNatClampNeg v3)) = 0 then
  (cv (fX6_align F d this h1) fun h29 => (
  ca (fX6_some F d this 8 h29) fun v32 h31 => (
  ca (fX6_in F d v32 1 4 h31) fun v34 h33 => (
  if v34 = 0 then
  (fX6_want_573 F d this v2 v32 h33)
  else
  (if ((gI h33 647 this) + (8 * v32)) ≤ (8 * (gI h33 628 this)) then
  (fX6_want_578 F d this v2 v32 h33)
  else
  (fX6_want_573 F d this v2 v32 h33))))))
  else
  (nn (gP h1 637 this) fun a38 => (
  nn (gP h1 612 this) fun a40 => (
  ck (inb v3 (nd_Ln a40)) (
  nn (gP h1 613 this) fun a43 => (
  ck (inb v3 (nd_Ln a43)) (
  ca (fX6_ranging F d this (gA h1 a40 (Int32.toNatClampNeg v3)) (gA h1 a43 (Int32.toNatClampNeg v3)) h1) fun v46 h45 => (
  ck (inb v2 (nd_Ln a38)) (
  bn (sA h45 a38 (Int32.toNatClampNeg v2) v46) fun h48 => (
  some h48)))))))))))))))))))))))))))))
def fX6_want_85 (F d : Nat) (k_15 : Nat → Int32 → Int32 → Int32 → Hp → Option (Hp)) (this : Nat) (x4 : Int32) (x5 : Int32) (x6 : Int32) (x8 : Int32) (h : Hp) : Option (Hp) :=
  ca (fX6_adds F d this x4 x5 x6 x8 h) fun v2 h1 => (
  nn (gP h1 620 this) fun a4 => (
  ck (inb ((6 * (gI h1 623 this)) + x8) (nd_Ln a4)) (
  bn (gA h1 a4 (Int32.toNatClampNeg ((6 * (gI h1 623 this)) + x8))) fun v6 => (
  cv (fX6_unwrap F d this v6 h1) fun h7 => (
  k_15 this v6 v2 0 h7)))))
def fX6_want_57 (F d : Nat) (k_15 : Nat → Int32 → Int32 → Int32 → Hp → Option (Hp)) : Nat → Nat → Int32 → Int32 → Int32 → Int32 → Int32 → Hp → Option (Hp)
  | 0, _, _, _, _, _, _, _ => none
  | n + 1, this, x4, x5, x6, x7, x8, h =>
    if (gI h 649 this) = 0 then
    (fX6_want_85 F d k_15 this x4 x5 x6 x8 h)
    else
    (ca (fX6_rank F d this (gI h 623 this) x8 h) fun v3 h2 => (
    if v3 = x7 then
    (fX6_want_85 F d k_15 this x4 x5 x6 x8 h2)
    else
    (bn (x8 + 1) fun v5 => (
    fX6_want_57 F d k_15 n this x4 x5 x6 x7 v5 h2))))
def fX6_want_15 (F d : Nat) : Nat → Nat → Int32 → Int32 → Int32 → Hp → Option (Hp)
  | 0, _, _, _, _, _ => none
  | n + 1, this, x4, x5, x6, h =>
    if (gI h 649 this) = 0 then
    (fX6_want_128 F d this x4 x5 x6 h)
    else
    (nn (gP h 611 this) fun a3 => (
    ck (inb (gI h 623 this) (nd_Ln a3)) (
    if (gA h a3 (Int32.toNatClampNeg (gI h 623 this))) = 9 then
    (nn (gP h 615 this) fun a7 => (
    ck (inb (gI h 623 this) (nd_Ln a7)) (
    ca (fX6_ranging F d this 0 ((gA h a7 (Int32.toNatClampNeg (gI h 623 this))) - 1) h) fun v10 h9 => (
    fX6_want_57 F d (fX6_want_15 F d n) F this x4 x5 x6 v10 0 h9))))
    else
    (fX6_want_128 F d this x4 x5 x6 h))))
def fX6_want (F d : Nat) (this : Nat) (p0 : Int32) (p1 : Int32) (p2 : Int32) (h : Hp) : Option (Hp) :=
  cv (fX6_unwrap F d this p0 h) fun h1 => (
  fX6_want_15 F d F this p0 p1 p2 h1)
theorem mw_X6_want : nd_MW yX6_want cX6_want 10 none 3 := ⟨q1678, q91, by decide, by decide, by decide +kernel⟩
set_option maxHeartbeats 4000000 in
theorem tX6_want_461 (l : Launch) (w : Wd) (hfl : l.stackTraces = false) (F d : Nat) (r : Hp) (this : Nat) (x7 : Int32) (x8 : Int32) (k_this : nd_Kd this = 5) (h : Hp) (hf : fX6_want_461 F d this x7 x8 h = some r) : nd_V l w yX6_want cX6_want 10 none 4 89 (.inl none, r) h 461 [(0, vr (some this)), (7, vi x7), (8, vi x8)] [] := by
  unfold fX6_want_461 at hf
  refine nd_aload_n (j := 0) dX6_want_461 rfl rfl ?_
  refine nd_getP (k := 37) dX6_want_462 k_this rfl (Nat.le_of_ble_eq_true rfl) (nd_flO q1377) rfl (fun ok1 => ?_)
  replace hf := nnE hf
  obtain ⟨a2, e_a2, hf⟩ := hf
  refine nd_topr e_a2.symm ?_
  have k_a2 : nd_Kd a2 = 20 := nd_c1 (ok1 a2 e_a2)
  refine nd_iload (j := 1) dX6_want_465 rfl ?_
  refine nd_aload_n (j := 0) dX6_want_467 rfl rfl ?_
  refine nd_getP (k := 11) dX6_want_468 k_this rfl (Nat.le_of_ble_eq_true rfl) (nd_flO q1351) rfl (fun ok3 => ?_)
  replace hf := nnE hf
  obtain ⟨a4, e_a4, hf⟩ := hf
  refine nd_topr e_a4.symm ?_
  have k_a4 : nd_Kd a4 = 20 := nd_c1 (ok3 a4 e_a4)
  refine nd_iload (j := 2) dX6_want_471 rfl ?_
  replace hf := ckE hf
  obtain ⟨c5, hf⟩ := hf
  refine nd_iald dX6_want_473 k_a4 c5 ?_
  refine nd_bipush (v := 7) dX6_want_474 (by decide) ?_
  refine nd_icmp_ne (tgt := 488) dX6_want_476 (by decide) (fun c6 => ?_) (fun c6 => ?_)
  · replace hf := ifn c6 hf
    refine nd_iconst (v := 0) dX6_want_488 (by decide) ?_
    replace hf := ckE hf
    obtain ⟨c7, hf⟩ := hf
    refine nd_iast dX6_want_489 k_a2 c7 ?_
    replace hf := bnE hf
    obtain ⟨h8, e_h8, hf⟩ := hf
    refine nd_hp e_h8 ?_
    refine nd_goto (tgt := 623) dX6_want_490 (by decide) ?_
    cases hf
    exact nd_vret dX6_want_623
  · replace hf := ifp c6 hf
    refine nd_aload_n (j := 0) dX6_want_479 rfl rfl ?_
    refine nd_iload (j := 2) dX6_want_480 rfl ?_
    replace hf := caE hf
    obtain ⟨v10, h9, e_h9, hf⟩ := hf
    refine nd_Vi [vi x7, vr (some a2)] (tX6_counted l w hfl F d k_this e_h9) rfl dX6_want_482 mw_X6_counted (Or.inl q1702) k_this rfl q1704 qs64 (by omega) (by omega) (Nat.le_of_ble_eq_true rfl) ?_
    refine nd_goto (tgt := 489) dX6_want_485 (by decide) ?_
    replace hf := ckE hf
    obtain ⟨c11, hf⟩ := hf
    refine nd_iast dX6_want_489 k_a2 c11 ?_
    replace hf := bnE hf
    obtain ⟨h12, e_h12, hf⟩ := hf
    refine nd_hp e_h12 ?_
    refine nd_goto (tgt := 623) dX6_want_490 (by decide) ?_
    cases hf
    exact nd_vret dX6_want_623
set_option maxHeartbeats 4000000 in
theorem tX6_want_453 (l : Launch) (w : Wd) (hfl : l.stackTraces = false) (F d : Nat) (r : Hp) (k_382 : Nat → Int32 → Int32 → Int32 → Hp → Option (Hp)) (hk_382 : ∀ (this : Nat) (x7 : Int32) (x8 : Int32) (x9 : Int32) (k_this : nd_Kd this = 5) (h : Hp), k_382 this x7 x8 x9 h = some r → nd_V l w yX6_want cX6_want 10 none 4 89 (.inl none, r) h 382 [(0, vr (some this)), (7, vi x7), (8, vi x8), (9, vi x9)] []) (this : Nat) (x7 : Int32) (x8 : Int32) (x9 : Int32) (s0 : Nat) (s1 : Int32) (s2 : Int32) (s3 : Int32) (k_this : nd_Kd this = 5) (k_s0 : nd_Kd s0 = 20) (h : Hp) (hf : fX6_want_453 F d k_382 this x7 x8 x9 s0 s1 s2 s3 h = some r) : nd_V l w yX6_want cX6_want 10 none 4 89 (.inl none, r) h 453 [(0, vr (some this)), (7, vi x7), (8, vi x8), (9, vi x9)] [vi s3, vi s2, vi s1, vr (some s0)] := by
  unfold fX6_want_453 at hf
  refine nd_iadd dX6_want_453 ?_
  replace hf := ckE hf
  obtain ⟨c1, hf⟩ := hf
  refine nd_iast dX6_want_454 k_s0 c1 ?_
  replace hf := bnE hf
  obtain ⟨h2, e_h2, hf⟩ := hf
  refine nd_hp e_h2 ?_
  replace hf := bnE hf
  obtain ⟨v3, e_v3, hf⟩ := hf
  refine nd_iinc (v := v3) (j := 3) [(9, vi v3), (0, vr (some this)), (7, vi x7), (8, vi x8)] dX6_want_455 rfl (by rw [e_v3]; rfl) (Nat.le_of_ble_eq_true rfl) rfl ?_
  refine nd_goto (tgt := 382) dX6_want_458 (by decide) ?_
  exact nd_loc [1, 2, 3, 0] rfl (hk_382 _ _ _ _ k_this _ hf)
set_option maxHeartbeats 4000000 in
theorem tX6_want_382 (l : Launch) (w : Wd) (hfl : l.stackTraces = false) (F d : Nat) (r : Hp) : ∀ (n : Nat) (this : Nat) (x7 : Int32) (x8 : Int32) (x9 : Int32) (k_this : nd_Kd this = 5) (h : Hp), fX6_want_382 F d n this x7 x8 x9 h = some r → nd_V l w yX6_want cX6_want 10 none 4 89 (.inl none, r) h 382 [(0, vr (some this)), (7, vi x7), (8, vi x8), (9, vi x9)] [] := by
  intro n
  induction n with
  | zero => intro _ _ _ _ _ _ hf; cases hf
  | succ n ih =>
    intro this x7 x8 x9 k_this h hf
    unfold fX6_want_382 at hf
    refine nd_iload (j := 3) dX6_want_382 rfl ?_
    refine nd_bipush (v := 6) dX6_want_384 (by decide) ?_
    refine nd_iload (j := 2) dX6_want_386 rfl ?_
    refine nd_imul dX6_want_388 ?_
    refine nd_aload_n (j := 0) dX6_want_389 rfl rfl ?_
    refine nd_getP (k := 15) dX6_want_390 k_this rfl (Nat.le_of_ble_eq_true rfl) (nd_flO q1355) rfl (fun ok1 => ?_)
    replace hf := nnE hf
    obtain ⟨a2, e_a2, hf⟩ := hf
    refine nd_topr e_a2.symm ?_
    have k_a2 : nd_Kd a2 = 20 := nd_c1 (ok1 a2 e_a2)
    refine nd_iload (j := 2) dX6_want_393 rfl ?_
    replace hf := ckE hf
    obtain ⟨c3, hf⟩ := hf
    refine nd_iald dX6_want_395 k_a2 c3 ?_
    refine nd_iadd dX6_want_396 ?_
    refine nd_icmp_ge (tgt := 461) dX6_want_397 (by decide) (fun c4 => ?_) (fun c4 => ?_)
    · replace hf := ifp c4 hf
      exact nd_loc [0, 1, 2] rfl (tX6_want_461 l w hfl F d r _ _ _ k_this _ hf)
    · replace hf := ifn c4 hf
      refine nd_aload_n (j := 0) dX6_want_400 rfl rfl ?_
      refine nd_getP (k := 11) dX6_want_401 k_this rfl (Nat.le_of_ble_eq_true rfl) (nd_flO q1351) rfl (fun ok5 => ?_)
      replace hf := nnE hf
      obtain ⟨a6, e_a6, hf⟩ := hf
      refine nd_topr e_a6.symm ?_
      have k_a6 : nd_Kd a6 = 20 := nd_c1 (ok5 a6 e_a6)
      refine nd_iload (j := 2) dX6_want_404 rfl ?_
      replace hf := ckE hf
      obtain ⟨c7, hf⟩ := hf
      refine nd_iald dX6_want_406 k_a6 c7 ?_
      refine nd_bipush (v := 6) dX6_want_407 (by decide) ?_
      refine nd_icmp_ne (tgt := 461) dX6_want_409 (by decide) (fun c8 => ?_) (fun c8 => ?_)
      · replace hf := ifn c8 hf
        exact nd_loc [0, 1, 2] rfl (tX6_want_461 l w hfl F d r _ _ _ k_this _ hf)
      · replace hf := ifp c8 hf
        refine nd_aload_n (j := 0) dX6_want_412 rfl rfl ?_
        refine nd_getP (k := 53) dX6_want_413 k_this rfl (Nat.le_of_ble_eq_true rfl) (nd_flO q1393) rfl (fun ok9 => ?_)
        replace hf := nnE hf
        obtain ⟨a10, e_a10, hf⟩ := hf
        refine nd_topr e_a10.symm ?_
        have k_a10 : nd_Kd a10 = 20 := nd_c1 (ok9 a10 e_a10)
        refine nd_aload_n (j := 0) dX6_want_416 rfl rfl ?_
        refine nd_getI (k := 48) dX6_want_417 k_this rfl (Nat.le_of_ble_eq_true rfl) (nd_flO q1388) rfl ?_
        refine nd_iconst (v := 1) dX6_want_420 (by decide) ?_
        refine nd_isub dX6_want_421 ?_
        refine nd_iconst (v := 2) dX6_want_422 (by decide) ?_
        refine nd_aload_n (j := 0) dX6_want_423 rfl rfl ?_
        refine nd_getP (k := 53) dX6_want_424 k_this rfl (Nat.le_of_ble_eq_true rfl) (nd_flO q1393) rfl (fun ok11 => ?_)
        replace hf := nnE hf
        obtain ⟨a12, e_a12, hf⟩ := hf
        refine nd_topr e_a12.symm ?_
        have k_a12 : nd_Kd a12 = 20 := nd_c1 (ok11 a12 e_a12)
        refine nd_aload_n (j := 0) dX6_want_427 rfl rfl ?_
        refine nd_getI (k := 48) dX6_want_428 k_this rfl (Nat.le_of_ble_eq_true rfl) (nd_flO q1388) rfl ?_
        refine nd_iconst (v := 1) dX6_want_431 (by decide) ?_
        refine nd_isub dX6_want_432 ?_
        replace hf := ckE hf
        obtain ⟨c13, hf⟩ := hf
        refine nd_iald dX6_want_433 k_a12 c13 ?_
        refine nd_imul dX6_want_434 ?_
        refine nd_aload_n (j := 0) dX6_want_435 rfl rfl ?_
        refine nd_getP (k := 21) dX6_want_436 k_this rfl (Nat.le_of_ble_eq_true rfl) (nd_flO q1361) rfl (fun ok14 => ?_)
        replace hf := nnE hf
        obtain ⟨a15, e_a15, hf⟩ := hf
        refine nd_topr e_a15.symm ?_
        have k_a15 : nd_Kd a15 = 20 := nd_c1 (ok14 a15 e_a15)
        refine nd_iload (j := 3) dX6_want_439 rfl ?_
        replace hf := ckE hf
        obtain ⟨c16, hf⟩ := hf
        refine nd_iald dX6_want_441 k_a15 c16 ?_
        refine nd_if_ne (tgt := 449) dX6_want_442 (by decide) (fun c17 => ?_) (fun c17 => ?_)
        · replace hf := ifn c17 hf
          refine nd_aload_n (j := 0) dX6_want_449 rfl rfl ?_
          replace hf := caE hf
          obtain ⟨v19, h18, e_h18, hf⟩ := hf
          refine nd_Vi [vi (2 * (gA h a12 (Int32.toNatClampNeg ((gI h 648 this) - 1)))), vi ((gI h 648 this) - 1), vr (some a10)] (tX6_bit l w hfl F d k_this e_h18) rfl dX6_want_450 mw_X6_bit (Or.inl q1694) k_this rfl q1696 qs62 (by omega) (by omega) (Nat.le_of_ble_eq_true rfl) ?_
          exact nd_loc [0, 1, 2, 3] rfl (tX6_want_453 l w hfl F d r (fX6_want_382 F d n) ih _ _ _ _ _ _ _ _ k_this k_a10 _ hf)
        · replace hf := ifp c17 hf
          refine nd_iconst (v := 1) dX6_want_445 (by decide) ?_
          refine nd_goto (tgt := 453) dX6_want_446 (by decide) ?_
          exact nd_loc [0, 1, 2, 3] rfl (tX6_want_453 l w hfl F d r (fX6_want_382 F d n) ih _ _ _ _ _ _ _ _ k_this k_a10 _ hf)
set_option maxHeartbeats 4000000 in
theorem tX6_want_367 (l : Launch) (w : Wd) (hfl : l.stackTraces = false) (F d : Nat) (r : Hp) (this : Nat) (x7 : Int32) (x8 : Int32) (k_this : nd_Kd this = 5) (h : Hp) (hf : fX6_want_367 F d this x7 x8 h = some r) : nd_V l w yX6_want cX6_want 10 none 4 89 (.inl none, r) h 367 [(0, vr (some this)), (7, vi x7), (8, vi x8)] [] := by
  unfold fX6_want_367 at hf
  refine nd_aload_n (j := 0) dX6_want_367 rfl rfl ?_
  refine nd_iload (j := 1) dX6_want_368 rfl ?_
  refine nd_iconst (v := 0) dX6_want_370 (by decide) ?_
  refine nd_iconst (v := 0) dX6_want_371 (by decide) ?_
  replace hf := cvE hf
  obtain ⟨h1, e_h1, hf⟩ := hf
  refine nd_Vv [] (tX6_frame l w hfl F d k_this e_h1) rfl dX6_want_372 mw_X6_frame (Or.inl q1655) k_this rfl q1657 qs55 (by omega) (by omega) (Nat.le_of_ble_eq_true rfl) ?_
  refine nd_bipush (v := 6) dX6_want_375 (by decide) ?_
  refine nd_iload (j := 2) dX6_want_377 rfl ?_
  refine nd_imul dX6_want_379 ?_
  replace hf := bnE hf
  obtain ⟨v3, e_v3, hf⟩ := hf
  refine nd_top e_v3 ?_
  refine nd_istore [(9, vi v3), (0, vr (some this)), (7, vi x7), (8, vi x8)] dX6_want_380 (Nat.le_of_ble_eq_true rfl) rfl ?_
  exact nd_loc [1, 2, 3, 0] rfl (tX6_want_382 l w hfl F d r F _ _ _ _ k_this _ hf)
set_option maxHeartbeats 4000000 in
theorem tX6_want_578 (l : Launch) (w : Wd) (hfl : l.stackTraces = false) (F d : Nat) (r : Hp) (this : Nat) (x7 : Int32) (x9 : Int32) (k_this : nd_Kd this = 5) (h : Hp) (hf : fX6_want_578 F d this x7 x9 h = some r) : nd_V l w yX6_want cX6_want 10 none 4 89 (.inl none, r) h 578 [(0, vr (some this)), (7, vi x7), (9, vi x9)] [] := by
  unfold fX6_want_578 at hf
  refine nd_aload_n (j := 0) dX6_want_578 rfl rfl ?_
  refine nd_getP (k := 37) dX6_want_579 k_this rfl (Nat.le_of_ble_eq_true rfl) (nd_flO q1377) rfl (fun ok1 => ?_)
  replace hf := nnE hf
  obtain ⟨a2, e_a2, hf⟩ := hf
  refine nd_topr e_a2.symm ?_
  have k_a2 : nd_Kd a2 = 20 := nd_c1 (ok1 a2 e_a2)
  refine nd_iload (j := 1) dX6_want_582 rfl ?_
  refine nd_aload_n (j := 0) dX6_want_584 rfl rfl ?_
  refine nd_getI (k := 49) dX6_want_585 k_this rfl (Nat.le_of_ble_eq_true rfl) (nd_flO q1389) rfl ?_
  refine nd_if_eq (tgt := 621) dX6_want_588 (by decide) (fun c3 => ?_) (fun c3 => ?_)
  · replace hf := ifp c3 hf
    refine nd_iconst (v := 0) dX6_want_621 (by decide) ?_
    replace hf := ckE hf
    obtain ⟨c4, hf⟩ := hf
    refine nd_iast dX6_want_622 k_a2 c4 ?_
    replace hf := bnE hf
    obtain ⟨h5, e_h5, hf⟩ := hf
    refine nd_hp e_h5 ?_
    cases hf
    exact nd_vret dX6_want_623
  · replace hf := ifn c3 hf
    refine nd_aload_n (j := 0) dX6_want_591 rfl rfl ?_
    refine nd_bipush (v := 8) dX6_want_592 (by decide) ?_
    refine nd_iload (j := 2) dX6_want_594 rfl ?_
    refine nd_imul dX6_want_596 ?_
    replace hf := caE hf
    obtain ⟨v7, h6, e_h6, hf⟩ := hf
    refine nd_Vi [vi x7, vr (some a2)] (tX6_some l w hfl F d k_this e_h6) rfl dX6_want_597 mw_X6_some (Or.inl q1690) k_this rfl q1692 qs61 (by omega) (by omega) (Nat.le_of_ble_eq_true rfl) ?_
    refine nd_bipush (v := 32) dX6_want_600 (by decide) ?_
    refine nd_bipush (v := 8) dX6_want_602 (by decide) ?_
    refine nd_iload (j := 2) dX6_want_604 rfl ?_
    refine nd_imul dX6_want_606 ?_
    refine nd_isub dX6_want_607 ?_
    refine nd_ishl dX6_want_608 ?_
    refine nd_bipush (v := 32) dX6_want_609 (by decide) ?_
    refine nd_bipush (v := 8) dX6_want_611 (by decide) ?_
    refine nd_iload (j := 2) dX6_want_613 rfl ?_
    refine nd_imul dX6_want_615 ?_
    refine nd_isub dX6_want_616 ?_
    refine nd_ishr dX6_want_617 ?_
    refine nd_goto (tgt := 622) dX6_want_618 (by decide) ?_
    replace hf := ckE hf
    obtain ⟨c8, hf⟩ := hf
    refine nd_iast dX6_want_622 k_a2 c8 ?_
    replace hf := bnE hf
    obtain ⟨h9, e_h9, hf⟩ := hf
    refine nd_hp e_h9 ?_
    cases hf
    exact nd_vret dX6_want_623
set_option maxHeartbeats 4000000 in
theorem tX6_want_573 (l : Launch) (w : Wd) (hfl : l.stackTraces = false) (F d : Nat) (r : Hp) (this : Nat) (x7 : Int32) (x9 : Int32) (k_this : nd_Kd this = 5) (h : Hp) (hf : fX6_want_573 F d this x7 x9 h = some r) : nd_V l w yX6_want cX6_want 10 none 4 89 (.inl none, r) h 573 [(0, vr (some this)), (7, vi x7), (9, vi x9)] [] := by
  unfold fX6_want_573 at hf
  refine nd_aload_n (j := 0) dX6_want_573 rfl rfl ?_
  refine nd_iconst (v := 0) dX6_want_574 (by decide) ?_
  refine nd_putZ (k := 49) (by decide) dX6_want_575 k_this rfl (Nat.le_of_ble_eq_true rfl) (nd_flO q1389) rfl rfl rfl ?_
  replace hf := bnE hf
  obtain ⟨h1, e_h1, hf⟩ := hf
  refine nd_hp e_h1 ?_
  exact nd_loc [0, 1, 2] rfl (tX6_want_578 l w hfl F d r _ _ _ k_this _ hf)
set_option maxHeartbeats 4000000 in
theorem tX6_want_336 (l : Launch) (w : Wd) (hfl : l.stackTraces = false) (F d : Nat) (r : Hp) (s0 : Nat) (s1 : Int32) (s2 : Int32) (k_s0 : nd_Kd s0 = 5) (h : Hp) (hf : fX6_want_336 F d s0 s1 s2 h = some r) : nd_V l w yX6_want cX6_want 10 none 4 89 (.inl none, r) h 336 [] [vi s2, vi s1, vr (some s0)] := by
  unfold fX6_want_336 at hf
  refine nd_iadd dX6_want_336 ?_
  refine nd_putN (k := 35) dX6_want_337 k_s0 rfl (Nat.le_of_ble_eq_true rfl) (nd_flO q1375) rfl rfl rfl ?_
  replace hf := bnE hf
  obtain ⟨h1, e_h1, hf⟩ := hf
  refine nd_hp e_h1 ?_
  refine nd_goto (tgt := 623) dX6_want_340 (by decide) ?_
  cases hf
  exact nd_vret dX6_want_623
set_option maxHeartbeats 4000000 in
theorem tX6_want_313 (l : Launch) (w : Wd) (hfl : l.stackTraces = false) (F d : Nat) (r : Hp) (this : Nat) (x7 : Int32) (k_this : nd_Kd this = 5) (h : Hp) (hf : fX6_want_313 F d this x7 h = some r) : nd_V l w yX6_want cX6_want 10 none 4 89 (.inl none, r) h 313 [(0, vr (some this)), (7, vi x7)] [] := by
  unfold fX6_want_313 at hf
  refine nd_aload_n (j := 0) dX6_want_313 rfl rfl ?_
  refine nd_dup dX6_want_314 rfl ?_
  refine nd_getI (k := 35) dX6_want_315 k_this rfl (Nat.le_of_ble_eq_true rfl) (nd_flO q1375) rfl ?_
  refine nd_aload_n (j := 0) dX6_want_318 rfl rfl ?_
  refine nd_getI (k := 49) dX6_want_319 k_this rfl (Nat.le_of_ble_eq_true rfl) (nd_flO q1389) rfl ?_
  refine nd_if_eq (tgt := 335) dX6_want_322 (by decide) (fun c1 => ?_) (fun c1 => ?_)
  · replace hf := ifp c1 hf
    refine nd_iconst (v := 0) dX6_want_335 (by decide) ?_
    exact nd_loc [] rfl (tX6_want_336 l w hfl F d r _ _ _ k_this _ hf)
  · replace hf := ifn c1 hf
    refine nd_aload_n (j := 0) dX6_want_325 rfl rfl ?_
    refine nd_getP (k := 37) dX6_want_326 k_this rfl (Nat.le_of_ble_eq_true rfl) (nd_flO q1377) rfl (fun ok2 => ?_)
    replace hf := nnE hf
    obtain ⟨a3, e_a3, hf⟩ := hf
    refine nd_topr e_a3.symm ?_
    have k_a3 : nd_Kd a3 = 20 := nd_c1 (ok2 a3 e_a3)
    refine nd_iload (j := 1) dX6_want_329 rfl ?_
    replace hf := ckE hf
    obtain ⟨c4, hf⟩ := hf
    refine nd_iald dX6_want_331 k_a3 c4 ?_
    refine nd_goto (tgt := 336) dX6_want_332 (by decide) ?_
    exact nd_loc [] rfl (tX6_want_336 l w hfl F d r _ _ _ k_this _ hf)
set_option maxHeartbeats 4000000 in
theorem tX6_want_270 (l : Launch) (w : Wd) (hfl : l.stackTraces = false) (F d : Nat) (r : Hp) : ∀ (n : Nat) (this : Nat) (x7 : Int32) (x9 : Int32) (k_this : nd_Kd this = 5) (h : Hp), fX6_want_270 F d n this x7 x9 h = some r → nd_V l w yX6_want cX6_want 10 none 4 89 (.inl none, r) h 270 [(0, vr (some this)), (7, vi x7), (9, vi x9)] [] := by
  intro n
  induction n with
  | zero => intro _ _ _ _ _ hf; cases hf
  | succ n ih =>
    intro this x7 x9 k_this h hf
    unfold fX6_want_270 at hf
    refine nd_iload (j := 2) dX6_want_270 rfl ?_
    refine nd_aload_n (j := 0) dX6_want_272 rfl rfl ?_
    refine nd_getP (k := 37) dX6_want_273 k_this rfl (Nat.le_of_ble_eq_true rfl) (nd_flO q1377) rfl (fun ok1 => ?_)
    replace hf := nnE hf
    obtain ⟨a2, e_a2, hf⟩ := hf
    refine nd_topr e_a2.symm ?_
    have k_a2 : nd_Kd a2 = 20 := nd_c1 (ok1 a2 e_a2)
    refine nd_iload (j := 1) dX6_want_276 rfl ?_
    replace hf := ckE hf
    obtain ⟨c3, hf⟩ := hf
    refine nd_iald dX6_want_278 k_a2 c3 ?_
    refine nd_icmp_ge (tgt := 313) dX6_want_279 (by decide) (fun c4 => ?_) (fun c4 => ?_)
    · replace hf := ifp c4 hf
      exact nd_loc [0, 1] rfl (tX6_want_313 l w hfl F d r _ _ k_this _ hf)
    · replace hf := ifn c4 hf
      refine nd_aload_n (j := 0) dX6_want_282 rfl rfl ?_
      refine nd_getI (k := 49) dX6_want_283 k_this rfl (Nat.le_of_ble_eq_true rfl) (nd_flO q1389) rfl ?_
      refine nd_if_eq (tgt := 313) dX6_want_286 (by decide) (fun c5 => ?_) (fun c5 => ?_)
      · replace hf := ifp c5 hf
        exact nd_loc [0, 1] rfl (tX6_want_313 l w hfl F d r _ _ k_this _ hf)
      · replace hf := ifn c5 hf
        refine nd_aload_n (j := 0) dX6_want_289 rfl rfl ?_
        refine nd_getP (k := 43) dX6_want_290 k_this rfl (Nat.le_of_ble_eq_true rfl) (nd_flO q1383) rfl (fun ok6 => ?_)
        replace hf := nnE hf
        obtain ⟨a7, e_a7, hf⟩ := hf
        refine nd_topr e_a7.symm ?_
        have k_a7 : nd_Kd a7 = 20 := nd_c1 (ok6 a7 e_a7)
        refine nd_aload_n (j := 0) dX6_want_293 rfl rfl ?_
        refine nd_getI (k := 35) dX6_want_294 k_this rfl (Nat.le_of_ble_eq_true rfl) (nd_flO q1375) rfl ?_
        refine nd_iload (j := 2) dX6_want_297 rfl ?_
        refine nd_iadd dX6_want_299 ?_
        refine nd_aload_n (j := 0) dX6_want_300 rfl rfl ?_
        refine nd_bipush (v := 8) dX6_want_301 (by decide) ?_
        replace hf := caE hf
        obtain ⟨v9, h8, e_h8, hf⟩ := hf
        refine nd_Vi [vi ((gI h 635 this) + x9), vr (some a7)] (tX6_some l w hfl F d k_this e_h8) rfl dX6_want_303 mw_X6_some (Or.inl q1690) k_this rfl q1692 qs61 (by omega) (by omega) (Nat.le_of_ble_eq_true rfl) ?_
        replace hf := ckE hf
        obtain ⟨c10, hf⟩ := hf
        refine nd_iast dX6_want_306 k_a7 c10 ?_
        replace hf := bnE hf
        obtain ⟨h11, e_h11, hf⟩ := hf
        refine nd_hp e_h11 ?_
        replace hf := bnE hf
        obtain ⟨v12, e_v12, hf⟩ := hf
        refine nd_iinc (v := v12) (j := 2) [(9, vi v12), (0, vr (some this)), (7, vi x7)] dX6_want_307 rfl (by rw [e_v12]; rfl) (Nat.le_of_ble_eq_true rfl) rfl ?_
        refine nd_goto (tgt := 270) dX6_want_310 (by decide) ?_
        exact nd_loc [1, 2, 0] rfl (ih _ _ _ k_this _ hf)
set_option maxHeartbeats 4000000 in
theorem tX6_want_267 (l : Launch) (w : Wd) (hfl : l.stackTraces = false) (F d : Nat) (r : Hp) (this : Nat) (x7 : Int32) (k_this : nd_Kd this = 5) (h : Hp) (hf : fX6_want_267 F d this x7 h = some r) : nd_V l w yX6_want cX6_want 10 none 4 89 (.inl none, r) h 267 [(0, vr (some this)), (7, vi x7)] [] := by
  unfold fX6_want_267 at hf
  refine nd_iconst (v := 0) dX6_want_267 (by decide) ?_
  refine nd_istore [(9, vi 0), (0, vr (some this)), (7, vi x7)] dX6_want_268 (Nat.le_of_ble_eq_true rfl) rfl ?_
  exact nd_loc [1, 2, 0] rfl (tX6_want_270 l w hfl F d r F _ _ _ k_this _ hf)
set_option maxHeartbeats 4000000 in
theorem tX6_want_263 (l : Launch) (w : Wd) (hfl : l.stackTraces = false) (F d : Nat) (r : Hp) (this : Nat) (x7 : Int32) (k_this : nd_Kd this = 5) (h : Hp) (hf : fX6_want_263 F d this x7 h = some r) : nd_V l w yX6_want cX6_want 10 none 4 89 (.inl none, r) h 263 [(0, vr (some this)), (7, vi x7)] [] := by
  unfold fX6_want_263 at hf
  refine nd_aload_n (j := 0) dX6_want_263 rfl rfl ?_
  replace hf := cvE hf
  obtain ⟨h1, e_h1, hf⟩ := hf
  refine nd_Vv [] (tX6_align l w hfl F d k_this e_h1) rfl dX6_want_264 mw_X6_align (Or.inl q1683) k_this rfl q1685 qs60 (by omega) (by omega) (Nat.le_of_ble_eq_true rfl) ?_
  exact nd_loc [0, 1] rfl (tX6_want_267 l w hfl F d r _ _ k_this _ hf)
set_option maxHeartbeats 4000000 in
theorem tX6_want_128 (l : Launch) (w : Wd) (hfl : l.stackTraces = false) (F d : Nat) (r : Hp) (this : Nat) (x4 : Int32) (x5 : Int32) (x6 : Int32) (k_this : nd_Kd this = 5) (h : Hp) (hf : fX6_want_128 F d this x4 x5 x6 h = some r) : nd_V l w yX6_want cX6_want 10 none 4 89 (.inl none, r) h 128 [(0, vr (some this)), (4, vi x4), (5, vi x5), (6, vi x6)] [] := by
  unfold fX6_want_128 at hf
  refine nd_aload_n (j := 0) dX6_want_128 rfl rfl ?_
  refine nd_iload (j := 1) dX6_want_129 rfl ?_
  refine nd_iload (j := 2) dX6_want_131 rfl ?_
  refine nd_iload (j := 3) dX6_want_133 rfl ?_
  refine nd_iconst (v := 0) dX6_want_135 (by decide) ?_
  replace hf := caE hf
  obtain ⟨v2, h1, e_h1, hf⟩ := hf
  refine nd_Vi [] (tX6_adds l w hfl F d k_this e_h1) rfl dX6_want_136 mw_X6_adds (Or.inl q1662) k_this rfl q1664 qs56 (by omega) (by omega) (Nat.le_of_ble_eq_true rfl) ?_
  refine nd_istore [(7, vi v2), (0, vr (some this)), (4, vi x4), (5, vi x5), (6, vi x6)] dX6_want_139 (Nat.le_of_ble_eq_true rfl) rfl ?_
  refine nd_aload_n (j := 1) dX6_want_141 rfl rfl ?_
  refine nd_getI (k := 23) dX6_want_142 k_this rfl (Nat.le_of_ble_eq_true rfl) (nd_flO q1363) rfl ?_
  replace hf := bnE hf
  obtain ⟨v3, e_v3, hf⟩ := hf
  refine nd_top e_v3 ?_
  refine nd_istore [(8, vi v3), (7, vi v2), (0, vr (some this)), (4, vi x4), (5, vi x5), (6, vi x6)] dX6_want_145 (Nat.le_of_ble_eq_true rfl) rfl ?_
  refine nd_aload_n (j := 2) dX6_want_147 rfl rfl ?_
  refine nd_getI (k := 49) dX6_want_148 k_this rfl (Nat.le_of_ble_eq_true rfl) (nd_flO q1389) rfl ?_
  refine nd_if_eq (tgt := 165) dX6_want_151 (by decide) (fun c4 => ?_) (fun c4 => ?_)
  · replace hf := ifp c4 hf
    cases hf
    exact nd_vret dX6_want_165
  · replace hf := ifn c4 hf
    refine nd_aload_n (j := 2) dX6_want_154 rfl rfl ?_
    refine nd_getP (k := 11) dX6_want_155 k_this rfl (Nat.le_of_ble_eq_true rfl) (nd_flO q1351) rfl (fun ok5 => ?_)
    replace hf := nnE hf
    obtain ⟨a6, e_a6, hf⟩ := hf
    refine nd_topr e_a6.symm ?_
    have k_a6 : nd_Kd a6 = 20 := nd_c1 (ok5 a6 e_a6)
    refine nd_iload (j := 0) dX6_want_158 rfl ?_
    replace hf := ckE hf
    obtain ⟨c7, hf⟩ := hf
    refine nd_iald dX6_want_160 k_a6 c7 ?_
    refine nd_iconst (v := 5) dX6_want_161 (by decide) ?_
    refine nd_icmp_ne (tgt := 166) dX6_want_162 (by decide) (fun c8 => ?_) (fun c8 => ?_)
    · replace hf := ifn c8 hf
      refine nd_aload_n (j := 2) dX6_want_166 rfl rfl ?_
      refine nd_getP (k := 11) dX6_want_167 k_this rfl (Nat.le_of_ble_eq_true rfl) (nd_flO q1351) rfl (fun ok9 => ?_)
      replace hf := nnE hf
      obtain ⟨a10, e_a10, hf⟩ := hf
      refine nd_topr e_a10.symm ?_
      have k_a10 : nd_Kd a10 = 20 := nd_c1 (ok9 a10 e_a10)
      refine nd_iload (j := 0) dX6_want_170 rfl ?_
      replace hf := ckE hf
      obtain ⟨c11, hf⟩ := hf
      refine nd_iald dX6_want_172 k_a10 c11 ?_
      refine nd_iconst (v := 1) dX6_want_173 (by decide) ?_
      refine nd_icmp_ne (tgt := 191) dX6_want_174 (by decide) (fun c12 => ?_) (fun c12 => ?_)
      · replace hf := ifn c12 hf
        refine nd_aload_n (j := 2) dX6_want_191 rfl rfl ?_
        refine nd_getP (k := 11) dX6_want_192 k_this rfl (Nat.le_of_ble_eq_true rfl) (nd_flO q1351) rfl (fun ok13 => ?_)
        replace hf := nnE hf
        obtain ⟨a14, e_a14, hf⟩ := hf
        refine nd_topr e_a14.symm ?_
        have k_a14 : nd_Kd a14 = 20 := nd_c1 (ok13 a14 e_a14)
        refine nd_iload (j := 0) dX6_want_195 rfl ?_
        replace hf := ckE hf
        obtain ⟨c15, hf⟩ := hf
        refine nd_iald dX6_want_197 k_a14 c15 ?_
        refine nd_iconst (v := 4) dX6_want_198 (by decide) ?_
        refine nd_icmp_ne (tgt := 343) dX6_want_199 (by decide) (fun c16 => ?_) (fun c16 => ?_)
        · replace hf := ifn c16 hf
          refine nd_aload_n (j := 2) dX6_want_343 rfl rfl ?_
          refine nd_getP (k := 11) dX6_want_344 k_this rfl (Nat.le_of_ble_eq_true rfl) (nd_flO q1351) rfl (fun ok17 => ?_)
          replace hf := nnE hf
          obtain ⟨a18, e_a18, hf⟩ := hf
          refine nd_topr e_a18.symm ?_
          have k_a18 : nd_Kd a18 = 20 := nd_c1 (ok17 a18 e_a18)
          refine nd_iload (j := 0) dX6_want_347 rfl ?_
          replace hf := ckE hf
          obtain ⟨c19, hf⟩ := hf
          refine nd_iald dX6_want_349 k_a18 c19 ?_
          refine nd_bipush (v := 6) dX6_want_350 (by decide) ?_
          refine nd_icmp_eq (tgt := 367) dX6_want_352 (by decide) (fun c20 => ?_) (fun c20 => ?_)
          · replace hf := ifp c20 hf
            exact nd_loc [2, 1, 0] rfl (tX6_want_367 l w hfl F d r _ _ _ k_this _ hf)
          · replace hf := ifn c20 hf
            refine nd_aload_n (j := 2) dX6_want_355 rfl rfl ?_
            refine nd_getP (k := 11) dX6_want_356 k_this rfl (Nat.le_of_ble_eq_true rfl) (nd_flO q1351) rfl (fun ok21 => ?_)
            replace hf := nnE hf
            obtain ⟨a22, e_a22, hf⟩ := hf
            refine nd_topr e_a22.symm ?_
            have k_a22 : nd_Kd a22 = 20 := nd_c1 (ok21 a22 e_a22)
            refine nd_iload (j := 0) dX6_want_359 rfl ?_
            replace hf := ckE hf
            obtain ⟨c23, hf⟩ := hf
            refine nd_iald dX6_want_361 k_a22 c23 ?_
            refine nd_bipush (v := 7) dX6_want_362 (by decide) ?_
            refine nd_icmp_ne (tgt := 493) dX6_want_364 (by decide) (fun c24 => ?_) (fun c24 => ?_)
            · replace hf := ifn c24 hf
              refine nd_aload_n (j := 2) dX6_want_493 rfl rfl ?_
              refine nd_getP (k := 18) dX6_want_494 k_this rfl (Nat.le_of_ble_eq_true rfl) (nd_flO q1358) rfl (fun ok25 => ?_)
              replace hf := nnE hf
              obtain ⟨a26, e_a26, hf⟩ := hf
              refine nd_topr e_a26.symm ?_
              have k_a26 : nd_Kd a26 = 22 := nd_c1 (ok25 a26 e_a26)
              refine nd_iload (j := 0) dX6_want_497 rfl ?_
              replace hf := ckE hf
              obtain ⟨c27, hf⟩ := hf
              refine nd_zald dX6_want_499 k_a26 c27 ?_
              refine nd_if_eq (tgt := 531) dX6_want_500 (by decide) (fun c28 => ?_) (fun c28 => ?_)
              · replace hf := ifp c28 hf
                refine nd_aload_n (j := 2) dX6_want_531 rfl rfl ?_
                replace hf := cvE hf
                obtain ⟨h29, e_h29, hf⟩ := hf
                refine nd_Vv [] (tX6_align l w hfl F d k_this e_h29) rfl dX6_want_532 mw_X6_align (Or.inl q1683) k_this rfl q1685 qs60 (by omega) (by omega) (Nat.le_of_ble_eq_true rfl) ?_
                refine nd_aload_n (j := 2) dX6_want_535 rfl rfl ?_
                refine nd_bipush (v := 8) dX6_want_536 (by decide) ?_
                replace hf := caE hf
                obtain ⟨v32, h31, e_h31, hf⟩ := hf
                refine nd_Vi [] (tX6_some l w hfl F d k_this e_h31) rfl dX6_want_538 mw_X6_some (Or.inl q1690) k_this rfl q1692 qs61 (by omega) (by omega) (Nat.le_of_ble_eq_true rfl) ?_
                refine nd_istore [(9, vi v32), (8, vi v3), (7, vi v2), (0, vr (some this)), (4, vi x4), (5, vi x5), (6, vi x6)] dX6_want_541 (Nat.le_of_ble_eq_true rfl) rfl ?_
                refine nd_iload (j := 0) dX6_want_543 rfl ?_
                refine nd_iconst (v := 1) dX6_want_545 (by decide) ?_
                refine nd_iconst (v := 4) dX6_want_546 (by decide) ?_
                replace hf := caE hf
                obtain ⟨v34, h33, e_h33, hf⟩ := hf
                refine nd_Si [] (tX6_in l w hfl F d e_h33) rfl dX6_want_547 mw_X6_in (Or.inl q1542) q1543 (by omega) (by omega) (Nat.le_of_ble_eq_true rfl) ?_
                refine nd_if_eq (tgt := 573) dX6_want_550 (by decide) (fun c35 => ?_) (fun c35 => ?_)
                · replace hf := ifp c35 hf
                  exact nd_loc [3, 2, 0] rfl (tX6_want_573 l w hfl F d r _ _ _ k_this _ hf)
                · replace hf := ifn c35 hf
                  refine nd_aload_n (j := 3) dX6_want_553 rfl rfl ?_
                  refine nd_getI (k := 47) dX6_want_554 k_this rfl (Nat.le_of_ble_eq_true rfl) (nd_flO q1387) rfl ?_
                  refine nd_bipush (v := 8) dX6_want_557 (by decide) ?_
                  refine nd_iload (j := 0) dX6_want_559 rfl ?_
                  refine nd_imul dX6_want_561 ?_
                  refine nd_iadd dX6_want_562 ?_
                  refine nd_bipush (v := 8) dX6_want_563 (by decide) ?_
                  refine nd_aload_n (j := 3) dX6_want_565 rfl rfl ?_
                  refine nd_getI (k := 28) dX6_want_566 k_this rfl (Nat.le_of_ble_eq_true rfl) (nd_flO q1368) rfl ?_
                  refine nd_imul dX6_want_569 ?_
                  refine nd_icmp_le (tgt := 578) dX6_want_570 (by decide) (fun c36 => ?_) (fun c36 => ?_)
                  · replace hf := ifp c36 hf
                    exact nd_loc [3, 2, 0] rfl (tX6_want_578 l w hfl F d r _ _ _ k_this _ hf)
                  · replace hf := ifn c36 hf
                    exact nd_loc [3, 2, 0] rfl (tX6_want_573 l w hfl F d r _ _ _ k_this _ hf)
              · replace hf := ifn c28 hf
                refine nd_aload_n (j := 2) dX6_want_503 rfl rfl ?_
                refine nd_getP (k := 37) dX6_want_504 k_this rfl (Nat.le_of_ble_eq_true rfl) (nd_flO q1377) rfl (fun ok37 => ?_)
                replace hf := nnE hf
                obtain ⟨a38, e_a38, hf⟩ := hf
                refine nd_topr e_a38.symm ?_
                have k_a38 : nd_Kd a38 = 20 := nd_c1 (ok37 a38 e_a38)
                refine nd_iload (j := 1) dX6_want_507 rfl ?_
                refine nd_aload_n (j := 2) dX6_want_509 rfl rfl ?_
                refine nd_aload_n (j := 2) dX6_want_510 rfl rfl ?_
                refine nd_getP (k := 12) dX6_want_511 k_this rfl (Nat.le_of_ble_eq_true rfl) (nd_flO q1352) rfl (fun ok39 => ?_)
                replace hf := nnE hf
                obtain ⟨a40, e_a40, hf⟩ := hf
                refine nd_topr e_a40.symm ?_
                have k_a40 : nd_Kd a40 = 20 := nd_c1 (ok39 a40 e_a40)
                refine nd_iload (j := 0) dX6_want_514 rfl ?_
                replace hf := ckE hf
                obtain ⟨c41, hf⟩ := hf
                refine nd_iald dX6_want_516 k_a40 c41 ?_
                refine nd_aload_n (j := 2) dX6_want_517 rfl rfl ?_
                refine nd_getP (k := 13) dX6_want_518 k_this rfl (Nat.le_of_ble_eq_true rfl) (nd_flO q1353) rfl (fun ok42 => ?_)
                replace hf := nnE hf
                obtain ⟨a43, e_a43, hf⟩ := hf
                refine nd_topr e_a43.symm ?_
                have k_a43 : nd_Kd a43 = 20 := nd_c1 (ok42 a43 e_a43)
                refine nd_iload (j := 0) dX6_want_521 rfl ?_
                replace hf := ckE hf
                obtain ⟨c44, hf⟩ := hf
                refine nd_iald dX6_want_523 k_a43 c44 ?_
                replace hf := caE hf
                obtain ⟨v46, h45, e_h45, hf⟩ := hf
                refine nd_Vi [vi v2, vr (some a38)] (tX6_ranging l w hfl F d k_this e_h45) rfl dX6_want_524 mw_X6_ranging (Or.inl q1679) k_this rfl q1681 qs59 (by omega) (by omega) (Nat.le_of_ble_eq_true rfl) ?_
                replace hf := ckE hf
                obtain ⟨c47, hf⟩ := hf
                refine nd_iast dX6_want_527 k_a38 c47 ?_
                replace hf := bnE hf
                obtain ⟨h48, e_h48, hf⟩ := hf
                refine nd_hp e_h48 ?_
                refine nd_goto (tgt := 623) dX6_want_528 (by decide) ?_
                cases hf
                exact nd_vret dX6_want_623
            · replace hf := ifp c24 hf
              exact nd_loc [2, 1, 0] rfl (tX6_want_367 l w hfl F d r _ _ _ k_this _ hf)
        · replace hf := ifp c16 hf
          refine nd_aload_n (j := 2) dX6_want_202 rfl rfl ?_
          refine nd_getP (k := 37) dX6_want_203 k_this rfl (Nat.le_of_ble_eq_true rfl) (nd_flO q1377) rfl (fun ok49 => ?_)
          replace hf := nnE hf
          obtain ⟨a50, e_a50, hf⟩ := hf
          refine nd_topr e_a50.symm ?_
          have k_a50 : nd_Kd a50 = 20 := nd_c1 (ok49 a50 e_a50)
          refine nd_iload (j := 1) dX6_want_206 rfl ?_
          refine nd_aload_n (j := 2) dX6_want_208 rfl rfl ?_
          refine nd_iload (j := 0) dX6_want_209 rfl ?_
          replace hf := caE hf
          obtain ⟨v52, h51, e_h51, hf⟩ := hf
          refine nd_Vi [vi v2, vr (some a50)] (tX6_counted l w hfl F d k_this e_h51) rfl dX6_want_211 mw_X6_counted (Or.inl q1702) k_this rfl q1704 qs64 (by omega) (by omega) (Nat.le_of_ble_eq_true rfl) ?_
          replace hf := ckE hf
          obtain ⟨c53, hf⟩ := hf
          refine nd_iast dX6_want_214 k_a50 c53 ?_
          replace hf := bnE hf
          obtain ⟨h54, e_h54, hf⟩ := hf
          refine nd_hp e_h54 ?_
          refine nd_aload_n (j := 2) dX6_want_215 rfl rfl ?_
          refine nd_getP (k := 18) dX6_want_216 k_this rfl (Nat.le_of_ble_eq_true rfl) (nd_flO q1358) rfl (fun ok55 => ?_)
          replace hf := nnE hf
          obtain ⟨a56, e_a56, hf⟩ := hf
          refine nd_topr e_a56.symm ?_
          have k_a56 : nd_Kd a56 = 22 := nd_c1 (ok55 a56 e_a56)
          refine nd_iload (j := 0) dX6_want_219 rfl ?_
          replace hf := ckE hf
          obtain ⟨c57, hf⟩ := hf
          refine nd_zald dX6_want_221 k_a56 c57 ?_
          refine nd_if_eq (tgt := 267) dX6_want_222 (by decide) (fun c58 => ?_) (fun c58 => ?_)
          · replace hf := ifp c58 hf
            exact nd_loc [2, 1] rfl (tX6_want_267 l w hfl F d r _ _ k_this _ hf)
          · replace hf := ifn c58 hf
            refine nd_aload_n (j := 2) dX6_want_225 rfl rfl ?_
            refine nd_getP (k := 37) dX6_want_226 k_this rfl (Nat.le_of_ble_eq_true rfl) (nd_flO q1377) rfl (fun ok59 => ?_)
            replace hf := nnE hf
            obtain ⟨a60, e_a60, hf⟩ := hf
            refine nd_topr e_a60.symm ?_
            have k_a60 : nd_Kd a60 = 20 := nd_c1 (ok59 a60 e_a60)
            refine nd_iload (j := 1) dX6_want_229 rfl ?_
            replace hf := ckE hf
            obtain ⟨c61, hf⟩ := hf
            refine nd_iald dX6_want_231 k_a60 c61 ?_
            refine nd_if_le (tgt := 267) dX6_want_232 (by decide) (fun c62 => ?_) (fun c62 => ?_)
            · replace hf := ifp c62 hf
              exact nd_loc [2, 1] rfl (tX6_want_267 l w hfl F d r _ _ k_this _ hf)
            · replace hf := ifn c62 hf
              refine nd_aload_n (j := 2) dX6_want_235 rfl rfl ?_
              refine nd_getP (k := 12) dX6_want_236 k_this rfl (Nat.le_of_ble_eq_true rfl) (nd_flO q1352) rfl (fun ok63 => ?_)
              replace hf := nnE hf
              obtain ⟨a64, e_a64, hf⟩ := hf
              refine nd_topr e_a64.symm ?_
              have k_a64 : nd_Kd a64 = 20 := nd_c1 (ok63 a64 e_a64)
              refine nd_iload (j := 0) dX6_want_239 rfl ?_
              replace hf := ckE hf
              obtain ⟨c65, hf⟩ := hf
              refine nd_iald dX6_want_241 k_a64 c65 ?_
              refine nd_aload_n (j := 2) dX6_want_242 rfl rfl ?_
              refine nd_getP (k := 13) dX6_want_243 k_this rfl (Nat.le_of_ble_eq_true rfl) (nd_flO q1353) rfl (fun ok66 => ?_)
              replace hf := nnE hf
              obtain ⟨a67, e_a67, hf⟩ := hf
              refine nd_topr e_a67.symm ?_
              have k_a67 : nd_Kd a67 = 20 := nd_c1 (ok66 a67 e_a67)
              refine nd_iload (j := 0) dX6_want_246 rfl ?_
              replace hf := ckE hf
              obtain ⟨c68, hf⟩ := hf
              refine nd_iald dX6_want_248 k_a67 c68 ?_
              refine nd_icmp_ne (tgt := 263) dX6_want_249 (by decide) (fun c69 => ?_) (fun c69 => ?_)
              · replace hf := ifn c69 hf
                exact nd_loc [2, 1] rfl (tX6_want_263 l w hfl F d r _ _ k_this _ hf)
              · replace hf := ifp c69 hf
                refine nd_aload_n (j := 2) dX6_want_252 rfl rfl ?_
                refine nd_getP (k := 13) dX6_want_253 k_this rfl (Nat.le_of_ble_eq_true rfl) (nd_flO q1353) rfl (fun ok70 => ?_)
                replace hf := nnE hf
                obtain ⟨a71, e_a71, hf⟩ := hf
                refine nd_topr e_a71.symm ?_
                have k_a71 : nd_Kd a71 = 20 := nd_c1 (ok70 a71 e_a71)
                refine nd_iload (j := 0) dX6_want_256 rfl ?_
                replace hf := ckE hf
                obtain ⟨c72, hf⟩ := hf
                refine nd_iald dX6_want_258 k_a71 c72 ?_
                refine nd_iconst (v := 2) dX6_want_259 (by decide) ?_
                refine nd_icmp_le (tgt := 267) dX6_want_260 (by decide) (fun c73 => ?_) (fun c73 => ?_)
                · replace hf := ifp c73 hf
                  exact nd_loc [2, 1] rfl (tX6_want_267 l w hfl F d r _ _ k_this _ hf)
                · replace hf := ifn c73 hf
                  exact nd_loc [2, 1] rfl (tX6_want_263 l w hfl F d r _ _ k_this _ hf)
      · replace hf := ifp c12 hf
        refine nd_aload_n (j := 2) dX6_want_177 rfl rfl ?_
        refine nd_getP (k := 37) dX6_want_178 k_this rfl (Nat.le_of_ble_eq_true rfl) (nd_flO q1377) rfl (fun ok74 => ?_)
        replace hf := nnE hf
        obtain ⟨a75, e_a75, hf⟩ := hf
        refine nd_topr e_a75.symm ?_
        have k_a75 : nd_Kd a75 = 20 := nd_c1 (ok74 a75 e_a75)
        refine nd_iload (j := 1) dX6_want_181 rfl ?_
        refine nd_aload_n (j := 2) dX6_want_183 rfl rfl ?_
        replace hf := caE hf
        obtain ⟨v77, h76, e_h76, hf⟩ := hf
        refine nd_Vi [vi v2, vr (some a75)] (tX6_bit l w hfl F d k_this e_h76) rfl dX6_want_184 mw_X6_bit (Or.inl q1694) k_this rfl q1696 qs62 (by omega) (by omega) (Nat.le_of_ble_eq_true rfl) ?_
        replace hf := ckE hf
        obtain ⟨c78, hf⟩ := hf
        refine nd_iast dX6_want_187 k_a75 c78 ?_
        replace hf := bnE hf
        obtain ⟨h79, e_h79, hf⟩ := hf
        refine nd_hp e_h79 ?_
        refine nd_goto (tgt := 623) dX6_want_188 (by decide) ?_
        cases hf
        exact nd_vret dX6_want_623
    · replace hf := ifp c8 hf
      cases hf
      exact nd_vret dX6_want_165
set_option maxHeartbeats 4000000 in
theorem tX6_want_85 (l : Launch) (w : Wd) (hfl : l.stackTraces = false) (F d : Nat) (r : Hp) (k_15 : Nat → Int32 → Int32 → Int32 → Hp → Option (Hp)) (hk_15 : ∀ (this : Nat) (x4 : Int32) (x5 : Int32) (x6 : Int32) (k_this : nd_Kd this = 5) (h : Hp), k_15 this x4 x5 x6 h = some r → nd_V l w yX6_want cX6_want 10 none 4 89 (.inl none, r) h 15 [(0, vr (some this)), (4, vi x4), (5, vi x5), (6, vi x6)] []) (this : Nat) (x4 : Int32) (x5 : Int32) (x6 : Int32) (x8 : Int32) (k_this : nd_Kd this = 5) (h : Hp) (hf : fX6_want_85 F d k_15 this x4 x5 x6 x8 h = some r) : nd_V l w yX6_want cX6_want 10 none 4 89 (.inl none, r) h 85 [(0, vr (some this)), (4, vi x4), (5, vi x5), (6, vi x6), (8, vi x8)] [] := by
  unfold fX6_want_85 at hf
  refine nd_aload_n (j := 0) dX6_want_85 rfl rfl ?_
  refine nd_iload (j := 1) dX6_want_86 rfl ?_
  refine nd_iload (j := 2) dX6_want_88 rfl ?_
  refine nd_iload (j := 3) dX6_want_90 rfl ?_
  refine nd_iload (j := 4) dX6_want_92 rfl ?_
  replace hf := caE hf
  obtain ⟨v2, h1, e_h1, hf⟩ := hf
  refine nd_Vi [] (tX6_adds l w hfl F d k_this e_h1) rfl dX6_want_94 mw_X6_adds (Or.inl q1662) k_this rfl q1664 qs56 (by omega) (by omega) (Nat.le_of_ble_eq_true rfl) ?_
  refine nd_istore [(5, vi v2), (0, vr (some this)), (4, vi x4), (6, vi x6), (8, vi x8)] dX6_want_97 (Nat.le_of_ble_eq_true rfl) rfl ?_
  refine nd_iconst (v := 0) dX6_want_99 (by decide) ?_
  refine nd_istore [(6, vi 0), (5, vi v2), (0, vr (some this)), (4, vi x4), (8, vi x8)] dX6_want_100 (Nat.le_of_ble_eq_true rfl) rfl ?_
  refine nd_aload_n (j := 2) dX6_want_102 rfl rfl ?_
  refine nd_getP (k := 20) dX6_want_103 k_this rfl (Nat.le_of_ble_eq_true rfl) (nd_flO q1360) rfl (fun ok3 => ?_)
  replace hf := nnE hf
  obtain ⟨a4, e_a4, hf⟩ := hf
  refine nd_topr e_a4.symm ?_
  have k_a4 : nd_Kd a4 = 20 := nd_c1 (ok3 a4 e_a4)
  refine nd_bipush (v := 6) dX6_want_106 (by decide) ?_
  refine nd_aload_n (j := 2) dX6_want_108 rfl rfl ?_
  refine nd_getI (k := 23) dX6_want_109 k_this rfl (Nat.le_of_ble_eq_true rfl) (nd_flO q1363) rfl ?_
  refine nd_imul dX6_want_112 ?_
  refine nd_iload (j := 4) dX6_want_113 rfl ?_
  refine nd_iadd dX6_want_115 ?_
  replace hf := ckE hf
  obtain ⟨c5, hf⟩ := hf
  refine nd_iald dX6_want_116 k_a4 c5 ?_
  replace hf := bnE hf
  obtain ⟨v6, e_v6, hf⟩ := hf
  refine nd_top e_v6 ?_
  refine nd_istore [(4, vi v6), (6, vi 0), (5, vi v2), (0, vr (some this)), (8, vi x8)] dX6_want_117 (Nat.le_of_ble_eq_true rfl) rfl ?_
  refine nd_aload_n (j := 3) dX6_want_119 rfl rfl ?_
  refine nd_iload (j := 0) dX6_want_120 rfl ?_
  replace hf := cvE hf
  obtain ⟨h7, e_h7, hf⟩ := hf
  refine nd_Vv [] (tX6_unwrap l w hfl F d k_this e_h7) rfl dX6_want_122 mw_X6_unwrap (Or.inl q1594) k_this rfl q1596 qs44 (by omega) (by omega) (Nat.le_of_ble_eq_true rfl) ?_
  refine nd_goto (tgt := 15) dX6_want_125 (by decide) ?_
  exact nd_loc [3, 0, 2, 1] rfl (hk_15 _ _ _ _ k_this _ hf)
set_option maxHeartbeats 4000000 in
theorem tX6_want_57 (l : Launch) (w : Wd) (hfl : l.stackTraces = false) (F d : Nat) (r : Hp) (k_15 : Nat → Int32 → Int32 → Int32 → Hp → Option (Hp)) (hk_15 : ∀ (this : Nat) (x4 : Int32) (x5 : Int32) (x6 : Int32) (k_this : nd_Kd this = 5) (h : Hp), k_15 this x4 x5 x6 h = some r → nd_V l w yX6_want cX6_want 10 none 4 89 (.inl none, r) h 15 [(0, vr (some this)), (4, vi x4), (5, vi x5), (6, vi x6)] []) : ∀ (n : Nat) (this : Nat) (x4 : Int32) (x5 : Int32) (x6 : Int32) (x7 : Int32) (x8 : Int32) (k_this : nd_Kd this = 5) (h : Hp), fX6_want_57 F d k_15 n this x4 x5 x6 x7 x8 h = some r → nd_V l w yX6_want cX6_want 10 none 4 89 (.inl none, r) h 57 [(0, vr (some this)), (4, vi x4), (5, vi x5), (6, vi x6), (7, vi x7), (8, vi x8)] [] := by
  intro n
  induction n with
  | zero => intro _ _ _ _ _ _ _ _ hf; cases hf
  | succ n ih =>
    intro this x4 x5 x6 x7 x8 k_this h hf
    unfold fX6_want_57 at hf
    refine nd_aload_n (j := 0) dX6_want_57 rfl rfl ?_
    refine nd_getI (k := 49) dX6_want_58 k_this rfl (Nat.le_of_ble_eq_true rfl) (nd_flO q1389) rfl ?_
    refine nd_if_eq (tgt := 85) dX6_want_61 (by decide) (fun c1 => ?_) (fun c1 => ?_)
    · replace hf := ifp c1 hf
      exact nd_loc [0, 1, 2, 3, 5] rfl (tX6_want_85 l w hfl F d r k_15 hk_15 _ _ _ _ _ k_this _ hf)
    · replace hf := ifn c1 hf
      refine nd_aload_n (j := 0) dX6_want_64 rfl rfl ?_
      refine nd_aload_n (j := 0) dX6_want_65 rfl rfl ?_
      refine nd_getI (k := 23) dX6_want_66 k_this rfl (Nat.le_of_ble_eq_true rfl) (nd_flO q1363) rfl ?_
      refine nd_iload (j := 5) dX6_want_69 rfl ?_
      replace hf := caE hf
      obtain ⟨v3, h2, e_h2, hf⟩ := hf
      refine nd_Vi [] (tX6_rank l w hfl F d k_this e_h2) rfl dX6_want_71 mw_X6_rank (Or.inl q1698) k_this rfl q1700 qs63 (by omega) (by omega) (Nat.le_of_ble_eq_true rfl) ?_
      refine nd_iload (j := 4) dX6_want_74 rfl ?_
      refine nd_icmp_eq (tgt := 85) dX6_want_76 (by decide) (fun c4 => ?_) (fun c4 => ?_)
      · replace hf := ifp c4 hf
        exact nd_loc [0, 1, 2, 3, 5] rfl (tX6_want_85 l w hfl F d r k_15 hk_15 _ _ _ _ _ k_this _ hf)
      · replace hf := ifn c4 hf
        replace hf := bnE hf
        obtain ⟨v5, e_v5, hf⟩ := hf
        refine nd_iinc (v := v5) (j := 5) [(8, vi v5), (0, vr (some this)), (4, vi x4), (5, vi x5), (6, vi x6), (7, vi x7)] dX6_want_79 rfl (by rw [e_v5]; rfl) (Nat.le_of_ble_eq_true rfl) rfl ?_
        refine nd_goto (tgt := 57) dX6_want_82 (by decide) ?_
        exact nd_loc [1, 2, 3, 4, 5, 0] rfl (ih _ _ _ _ _ _ k_this _ hf)
set_option maxHeartbeats 4000000 in
theorem tX6_want_15 (l : Launch) (w : Wd) (hfl : l.stackTraces = false) (F d : Nat) (r : Hp) : ∀ (n : Nat) (this : Nat) (x4 : Int32) (x5 : Int32) (x6 : Int32) (k_this : nd_Kd this = 5) (h : Hp), fX6_want_15 F d n this x4 x5 x6 h = some r → nd_V l w yX6_want cX6_want 10 none 4 89 (.inl none, r) h 15 [(0, vr (some this)), (4, vi x4), (5, vi x5), (6, vi x6)] [] := by
  intro n
  induction n with
  | zero => intro _ _ _ _ _ _ hf; cases hf
  | succ n ih =>
    intro this x4 x5 x6 k_this h hf
    unfold fX6_want_15 at hf
    refine nd_aload_n (j := 0) dX6_want_15 rfl rfl ?_
    refine nd_getI (k := 49) dX6_want_16 k_this rfl (Nat.le_of_ble_eq_true rfl) (nd_flO q1389) rfl ?_
    refine nd_if_eq (tgt := 128) dX6_want_19 (by decide) (fun c1 => ?_) (fun c1 => ?_)
    · replace hf := ifp c1 hf
      exact nd_loc [0, 1, 2, 3] rfl (tX6_want_128 l w hfl F d r _ _ _ _ k_this _ hf)
    · replace hf := ifn c1 hf
      refine nd_aload_n (j := 0) dX6_want_22 rfl rfl ?_
      refine nd_getP (k := 11) dX6_want_23 k_this rfl (Nat.le_of_ble_eq_true rfl) (nd_flO q1351) rfl (fun ok2 => ?_)
      replace hf := nnE hf
      obtain ⟨a3, e_a3, hf⟩ := hf
      refine nd_topr e_a3.symm ?_
      have k_a3 : nd_Kd a3 = 20 := nd_c1 (ok2 a3 e_a3)
      refine nd_aload_n (j := 0) dX6_want_26 rfl rfl ?_
      refine nd_getI (k := 23) dX6_want_27 k_this rfl (Nat.le_of_ble_eq_true rfl) (nd_flO q1363) rfl ?_
      replace hf := ckE hf
      obtain ⟨c4, hf⟩ := hf
      refine nd_iald dX6_want_30 k_a3 c4 ?_
      refine nd_bipush (v := 9) dX6_want_31 (by decide) ?_
      refine nd_icmp_ne (tgt := 128) dX6_want_33 (by decide) (fun c5 => ?_) (fun c5 => ?_)
      · replace hf := ifn c5 hf
        exact nd_loc [0, 1, 2, 3] rfl (tX6_want_128 l w hfl F d r _ _ _ _ k_this _ hf)
      · replace hf := ifp c5 hf
        refine nd_aload_n (j := 0) dX6_want_36 rfl rfl ?_
        refine nd_iconst (v := 0) dX6_want_37 (by decide) ?_
        refine nd_aload_n (j := 0) dX6_want_38 rfl rfl ?_
        refine nd_getP (k := 15) dX6_want_39 k_this rfl (Nat.le_of_ble_eq_true rfl) (nd_flO q1355) rfl (fun ok6 => ?_)
        replace hf := nnE hf
        obtain ⟨a7, e_a7, hf⟩ := hf
        refine nd_topr e_a7.symm ?_
        have k_a7 : nd_Kd a7 = 20 := nd_c1 (ok6 a7 e_a7)
        refine nd_aload_n (j := 0) dX6_want_42 rfl rfl ?_
        refine nd_getI (k := 23) dX6_want_43 k_this rfl (Nat.le_of_ble_eq_true rfl) (nd_flO q1363) rfl ?_
        replace hf := ckE hf
        obtain ⟨c8, hf⟩ := hf
        refine nd_iald dX6_want_46 k_a7 c8 ?_
        refine nd_iconst (v := 1) dX6_want_47 (by decide) ?_
        refine nd_isub dX6_want_48 ?_
        replace hf := caE hf
        obtain ⟨v10, h9, e_h9, hf⟩ := hf
        refine nd_Vi [] (tX6_ranging l w hfl F d k_this e_h9) rfl dX6_want_49 mw_X6_ranging (Or.inl q1679) k_this rfl q1681 qs59 (by omega) (by omega) (Nat.le_of_ble_eq_true rfl) ?_
        refine nd_istore [(7, vi v10), (0, vr (some this)), (4, vi x4), (5, vi x5), (6, vi x6)] dX6_want_52 (Nat.le_of_ble_eq_true rfl) rfl ?_
        refine nd_iconst (v := 0) dX6_want_54 (by decide) ?_
        refine nd_istore [(8, vi 0), (7, vi v10), (0, vr (some this)), (4, vi x4), (5, vi x5), (6, vi x6)] dX6_want_55 (Nat.le_of_ble_eq_true rfl) rfl ?_
        exact nd_loc [2, 3, 4, 5, 1, 0] rfl (tX6_want_57 l w hfl F d r (fX6_want_15 F d n) ih F _ _ _ _ _ _ k_this _ hf)
set_option maxHeartbeats 4000000 in
theorem tX6_want (l : Launch) (w : Wd) (hfl : l.stackTraces = false) (F d : Nat) {this : Nat} {p0 : Int32} {p1 : Int32} {p2 : Int32} (k_this : nd_Kd this = 5) {h : Hp} {r : Hp} (hf : fX6_want F d this p0 p1 p2 h = some r) : nd_C l w yX6_want cX6_want 10 none 4 89 [vr (some this), vi p0, vi p1, vi p2] h (.inl none, r) := by
  refine nd_start (as := [vr (some this), vi p0, vi p1, vi p2]) hfl (by decide) (Nat.le_of_ble_eq_true rfl) ?_
  unfold fX6_want at hf
  refine nd_eqL (L' := [(0, vr (some this)), (1, vi p0), (2, vi p1), (3, vi p2)]) rfl ?_
  refine nd_iload_n (j := 1) dX6_want_0 rfl rfl ?_
  refine nd_istore [(4, vi p0), (0, vr (some this)), (1, vi p0), (2, vi p1), (3, vi p2)] dX6_want_1 (Nat.le_of_ble_eq_true rfl) rfl ?_
  refine nd_iload_n (j := 3) dX6_want_3 rfl rfl ?_
  refine nd_istore [(5, vi p1), (4, vi p0), (0, vr (some this)), (1, vi p0), (2, vi p1), (3, vi p2)] dX6_want_4 (Nat.le_of_ble_eq_true rfl) rfl ?_
  refine nd_iload_n (j := 5) dX6_want_6 rfl rfl ?_
  refine nd_istore [(6, vi p2), (5, vi p1), (4, vi p0), (0, vr (some this)), (1, vi p0), (2, vi p1), (3, vi p2)] dX6_want_7 (Nat.le_of_ble_eq_true rfl) rfl ?_
  refine nd_aload_n (j := 3) dX6_want_9 rfl rfl ?_
  refine nd_iload (j := 2) dX6_want_10 rfl ?_
  replace hf := cvE hf
  obtain ⟨h1, e_h1, hf⟩ := hf
  refine nd_Vv [] (tX6_unwrap l w hfl F d k_this e_h1) rfl dX6_want_12 mw_X6_unwrap (Or.inl q1594) k_this rfl q1596 qs44 (by omega) (by omega) (Nat.le_of_ble_eq_true rfl) ?_
  exact nd_loc [3, 2, 1, 0] rfl (tX6_want_15 l w hfl F d r F _ _ _ _ k_this _ hf)
def fX6_isEnd (F d : Nat) (this : Nat) (h : Hp) : Option (Int32 × Hp) :=
  nn (gP h 654 this) fun a2 => (
  ck (inb ((gI h 648 this) - 1) (nd_Ln a2)) (
  if (gA h a2 (Int32.toNatClampNeg ((gI h 648 this) - 1))) = 0 then
  (ca (fX6_bound F d this h) fun v17 h16 => (
  if (gI h 647 this) = v17 then
  (some (1, h16))
  else
  (some (0, h16))))
  else
  (ca (fX6_bound F d this h) fun v6 h5 => (
  if v6 ≤ ((gI h 647 this) + 1) then
  (some (0, h5))
  else
  (nn (gP h5 632 this) fun a9 => (
  ck (inb (gI h5 647 this) (nd_Ln a9)) (
  if (gA h5 a9 (Int32.toNatClampNeg (gI h5 647 this))) = 0 then
  (nn (gP h5 632 this) fun a13 => (
  ck (inb ((gI h5 647 this) + 1) (nd_Ln a13)) (
  if (gA h5 a13 (Int32.toNatClampNeg ((gI h5 647 this) + 1))) = 0 then
  (some (1, h5))
  else
  (some (0, h5)))))
  else
  (some (0, h5)))))))))
theorem mw_X6_isEnd : nd_MW yX6_isEnd cX6_isEnd 1 (some .boolean) 0 := ⟨q1713, q91, by decide, by decide, by decide +kernel⟩
set_option maxHeartbeats 4000000 in
theorem tX6_isEnd (l : Launch) (w : Wd) (hfl : l.stackTraces = false) (F d : Nat) {this : Nat} (k_this : nd_Kd this = 5) {h : Hp} {r : Int32 × Hp} (hf : fX6_isEnd F d this h = some r) : nd_C l w yX6_isEnd cX6_isEnd 1 (some .boolean) 1 20 [vr (some this)] h (.inl (some (vi r.1)), r.2) := by
  refine nd_start (as := [vr (some this)]) hfl (by decide) (Nat.le_of_ble_eq_true rfl) ?_
  unfold fX6_isEnd at hf
  refine nd_eqL (L' := [(0, vr (some this))]) rfl ?_
  refine nd_aload_n (j := 0) dX6_isEnd_0 rfl rfl ?_
  refine nd_getP (k := 54) dX6_isEnd_1 k_this rfl (Nat.le_of_ble_eq_true rfl) (nd_flO q1394) rfl (fun ok1 => ?_)
  replace hf := nnE hf
  obtain ⟨a2, e_a2, hf⟩ := hf
  refine nd_topr e_a2.symm ?_
  have k_a2 : nd_Kd a2 = 22 := nd_c1 (ok1 a2 e_a2)
  refine nd_aload_n (j := 0) dX6_isEnd_4 rfl rfl ?_
  refine nd_getI (k := 48) dX6_isEnd_5 k_this rfl (Nat.le_of_ble_eq_true rfl) (nd_flO q1388) rfl ?_
  refine nd_iconst (v := 1) dX6_isEnd_8 (by decide) ?_
  refine nd_isub dX6_isEnd_9 ?_
  replace hf := ckE hf
  obtain ⟨c3, hf⟩ := hf
  refine nd_zald dX6_isEnd_10 k_a2 c3 ?_
  refine nd_if_ne (tgt := 31) dX6_isEnd_11 (by decide) (fun c4 => ?_) (fun c4 => ?_)
  · replace hf := ifn c4 hf
    refine nd_aload_n (j := 0) dX6_isEnd_31 rfl rfl ?_
    refine nd_getI (k := 47) dX6_isEnd_32 k_this rfl (Nat.le_of_ble_eq_true rfl) (nd_flO q1387) rfl ?_
    refine nd_iconst (v := 1) dX6_isEnd_35 (by decide) ?_
    refine nd_iadd dX6_isEnd_36 ?_
    refine nd_aload_n (j := 0) dX6_isEnd_37 rfl rfl ?_
    replace hf := caE hf
    obtain ⟨v6, h5, e_h5, hf⟩ := hf
    refine nd_Vi [vi ((gI h 647 this) + 1)] (tX6_bound l w hfl F d k_this e_h5) rfl dX6_isEnd_38 mw_X6_bound (Or.inl q1643) k_this rfl q1645 qs52 (by omega) (by omega) (Nat.le_of_ble_eq_true rfl) ?_
    refine nd_icmp_ge (tgt := 74) dX6_isEnd_41 (by decide) (fun c7 => ?_) (fun c7 => ?_)
    · replace hf := ifp c7 hf
      refine nd_iconst (v := 0) dX6_isEnd_74 (by decide) ?_
      cases hf
      exact nd_zret (v := 0) (by decide) dX6_isEnd_75
    · replace hf := ifn c7 hf
      refine nd_aload_n (j := 0) dX6_isEnd_44 rfl rfl ?_
      refine nd_getP (k := 32) dX6_isEnd_45 k_this rfl (Nat.le_of_ble_eq_true rfl) (nd_flO q1372) rfl (fun ok8 => ?_)
      replace hf := nnE hf
      obtain ⟨a9, e_a9, hf⟩ := hf
      refine nd_topr e_a9.symm ?_
      have k_a9 : nd_Kd a9 = 20 := nd_c1 (ok8 a9 e_a9)
      refine nd_aload_n (j := 0) dX6_isEnd_48 rfl rfl ?_
      refine nd_getI (k := 47) dX6_isEnd_49 k_this rfl (Nat.le_of_ble_eq_true rfl) (nd_flO q1387) rfl ?_
      replace hf := ckE hf
      obtain ⟨c10, hf⟩ := hf
      refine nd_iald dX6_isEnd_52 k_a9 c10 ?_
      refine nd_if_ne (tgt := 74) dX6_isEnd_53 (by decide) (fun c11 => ?_) (fun c11 => ?_)
      · replace hf := ifn c11 hf
        refine nd_iconst (v := 0) dX6_isEnd_74 (by decide) ?_
        cases hf
        exact nd_zret (v := 0) (by decide) dX6_isEnd_75
      · replace hf := ifp c11 hf
        refine nd_aload_n (j := 0) dX6_isEnd_56 rfl rfl ?_
        refine nd_getP (k := 32) dX6_isEnd_57 k_this rfl (Nat.le_of_ble_eq_true rfl) (nd_flO q1372) rfl (fun ok12 => ?_)
        replace hf := nnE hf
        obtain ⟨a13, e_a13, hf⟩ := hf
        refine nd_topr e_a13.symm ?_
        have k_a13 : nd_Kd a13 = 20 := nd_c1 (ok12 a13 e_a13)
        refine nd_aload_n (j := 0) dX6_isEnd_60 rfl rfl ?_
        refine nd_getI (k := 47) dX6_isEnd_61 k_this rfl (Nat.le_of_ble_eq_true rfl) (nd_flO q1387) rfl ?_
        refine nd_iconst (v := 1) dX6_isEnd_64 (by decide) ?_
        refine nd_iadd dX6_isEnd_65 ?_
        replace hf := ckE hf
        obtain ⟨c14, hf⟩ := hf
        refine nd_iald dX6_isEnd_66 k_a13 c14 ?_
        refine nd_if_ne (tgt := 74) dX6_isEnd_67 (by decide) (fun c15 => ?_) (fun c15 => ?_)
        · replace hf := ifn c15 hf
          refine nd_iconst (v := 0) dX6_isEnd_74 (by decide) ?_
          cases hf
          exact nd_zret (v := 0) (by decide) dX6_isEnd_75
        · replace hf := ifp c15 hf
          refine nd_iconst (v := 1) dX6_isEnd_70 (by decide) ?_
          refine nd_goto (tgt := 75) dX6_isEnd_71 (by decide) ?_
          cases hf
          exact nd_zret (v := 1) (by decide) dX6_isEnd_75
  · replace hf := ifp c4 hf
    refine nd_aload_n (j := 0) dX6_isEnd_14 rfl rfl ?_
    refine nd_getI (k := 47) dX6_isEnd_15 k_this rfl (Nat.le_of_ble_eq_true rfl) (nd_flO q1387) rfl ?_
    refine nd_aload_n (j := 0) dX6_isEnd_18 rfl rfl ?_
    replace hf := caE hf
    obtain ⟨v17, h16, e_h16, hf⟩ := hf
    refine nd_Vi [vi (gI h 647 this)] (tX6_bound l w hfl F d k_this e_h16) rfl dX6_isEnd_19 mw_X6_bound (Or.inl q1643) k_this rfl q1645 qs52 (by omega) (by omega) (Nat.le_of_ble_eq_true rfl) ?_
    refine nd_icmp_ne (tgt := 29) dX6_isEnd_22 (by decide) (fun c18 => ?_) (fun c18 => ?_)
    · replace hf := ifn c18 hf
      refine nd_iconst (v := 0) dX6_isEnd_29 (by decide) ?_
      cases hf
      exact nd_zret (v := 0) (by decide) dX6_isEnd_30
    · replace hf := ifp c18 hf
      refine nd_iconst (v := 1) dX6_isEnd_25 (by decide) ?_
      refine nd_goto (tgt := 30) dX6_isEnd_26 (by decide) ?_
      cases hf
      exact nd_zret (v := 1) (by decide) dX6_isEnd_30
def fX6_baseOf (F d : Nat) (this : Nat) (p0 : Int32) (h : Hp) : Option (Int32 × Hp) :=
  nn (gP h 636 this) fun a2 => (
  ck (inb p0 (nd_Ln a2)) (
  cv (fX6_unwrap F d this (gA h a2 (Int32.toNatClampNeg p0)) h) fun h4 => (
  some ((gI h4 623 this), h4))))
theorem mw_X6_baseOf : nd_MW yX6_baseOf cX6_baseOf 2 (some .int) 1 := ⟨q1717, q91, by decide, by decide, by decide +kernel⟩
set_option maxHeartbeats 4000000 in
theorem tX6_baseOf (l : Launch) (w : Wd) (hfl : l.stackTraces = false) (F d : Nat) {this : Nat} {p0 : Int32} (k_this : nd_Kd this = 5) {h : Hp} {r : Int32 × Hp} (hf : fX6_baseOf F d this p0 h = some r) : nd_C l w yX6_baseOf cX6_baseOf 2 (some .int) 2 47 [vr (some this), vi p0] h (.inl (some (vi r.1)), r.2) := by
  refine nd_start (as := [vr (some this), vi p0]) hfl (by decide) (Nat.le_of_ble_eq_true rfl) ?_
  unfold fX6_baseOf at hf
  refine nd_eqL (L' := [(0, vr (some this)), (1, vi p0)]) rfl ?_
  refine nd_aload_n (j := 0) dX6_baseOf_0 rfl rfl ?_
  refine nd_aload_n (j := 0) dX6_baseOf_1 rfl rfl ?_
  refine nd_getP (k := 36) dX6_baseOf_2 k_this rfl (Nat.le_of_ble_eq_true rfl) (nd_flO q1376) rfl (fun ok1 => ?_)
  replace hf := nnE hf
  obtain ⟨a2, e_a2, hf⟩ := hf
  refine nd_topr e_a2.symm ?_
  have k_a2 : nd_Kd a2 = 20 := nd_c1 (ok1 a2 e_a2)
  refine nd_iload_n (j := 1) dX6_baseOf_5 rfl rfl ?_
  replace hf := ckE hf
  obtain ⟨c3, hf⟩ := hf
  refine nd_iald dX6_baseOf_6 k_a2 c3 ?_
  replace hf := cvE hf
  obtain ⟨h4, e_h4, hf⟩ := hf
  refine nd_Vv [] (tX6_unwrap l w hfl F d k_this e_h4) rfl dX6_baseOf_7 mw_X6_unwrap (Or.inl q1594) k_this rfl q1596 qs44 (by omega) (by omega) (Nat.le_of_ble_eq_true rfl) ?_
  refine nd_aload_n (j := 0) dX6_baseOf_10 rfl rfl ?_
  refine nd_getI (k := 23) dX6_baseOf_11 k_this rfl (Nat.le_of_ble_eq_true rfl) (nd_flO q1363) rfl ?_
  cases hf
  exact nd_iret (v := (gI h4 623 this)) dX6_baseOf_14
