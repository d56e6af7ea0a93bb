set_option maxRecDepth 100000
def fX6_leaveFrame_43 (F d : Nat) (this : Nat) (s0 : Nat) (s1 : Int32) (s2 : Int32) (h : Hp) : Option (Hp) :=
  bn (sI h 647 s0 (s1 + s2)) fun h1 => (
  bn (sI h1 648 this ((gI h1 648 this) - 1)) fun h2 => (
  some h2))
def fX6_leaveFrame_19 (F d : Nat) (this : Nat) (h : Hp) : Option (Hp) :=
  nn (gP h 654 this) fun a2 => (
  ck (inb ((gI h 648 this) - 1) (nd_Ln a2)) (
  if (gA h a2 (Int32.toNatClampNeg ((gI h 648 this) - 1))) = 0 then
  (fX6_leaveFrame_43 F d this this (gI h 647 this) 0 h)
  else
  (fX6_leaveFrame_43 F d this this (gI h 647 this) 2 h)))
def fX6_leaveFrame (F d : Nat) (this : Nat) (h : Hp) : Option (Hp) :=
  if (gI h 649 this) = 0 then
  (fX6_leaveFrame_19 F d this h)
  else
  (ca (fX6_isEnd F d this h) fun v3 h2 => (
  if v3 = 0 then
  (bn (sI h2 649 this 0) fun h5 => (
  fX6_leaveFrame_19 F d this h5))
  else
  (fX6_leaveFrame_19 F d this h2)))
theorem mw_X6_leaveFrame : nd_MW yX6_leaveFrame cX6_leaveFrame 1 none 0 := ⟨q1721, q91, by decide, by decide, by decide +kernel⟩
set_option maxHeartbeats 4000000 in
theorem tX6_leaveFrame_43 (l : Launch) (w : Wd) (hfl : l.stackTraces = false) (F d : Nat) (r : Hp) (this : Nat) (s0 : Nat) (s1 : Int32) (s2 : Int32) (k_this : nd_Kd this = 5) (k_s0 : nd_Kd s0 = 5) (h : Hp) (hf : fX6_leaveFrame_43 F d this s0 s1 s2 h = some r) : nd_V l w yX6_leaveFrame cX6_leaveFrame 1 none 2 40 (.inl none, r) h 43 [(0, vr (some this))] [vi s2, vi s1, vr (some s0)] := by
  unfold fX6_leaveFrame_43 at hf
  refine nd_iadd dX6_leaveFrame_43 ?_
  refine nd_putN (k := 47) dX6_leaveFrame_44 k_s0 rfl (Nat.le_of_ble_eq_true rfl) (nd_flO q1387) rfl rfl rfl ?_
  replace hf := bnE hf
  obtain ⟨h1, e_h1, hf⟩ := hf
  refine nd_hp e_h1 ?_
  refine nd_aload_n (j := 0) dX6_leaveFrame_47 rfl rfl ?_
  refine nd_dup dX6_leaveFrame_48 rfl ?_
  refine nd_getI (k := 48) dX6_leaveFrame_49 k_this rfl (Nat.le_of_ble_eq_true rfl) (nd_flO q1388) rfl ?_
  refine nd_iconst (v := 1) dX6_leaveFrame_52 (by decide) ?_
  refine nd_isub dX6_leaveFrame_53 ?_
  refine nd_putN (k := 48) dX6_leaveFrame_54 k_this rfl (Nat.le_of_ble_eq_true rfl) (nd_flO q1388) rfl rfl rfl ?_
  replace hf := bnE hf
  obtain ⟨h2, e_h2, hf⟩ := hf
  refine nd_hp e_h2 ?_
  cases hf
  exact nd_vret dX6_leaveFrame_57
set_option maxHeartbeats 4000000 in
theorem tX6_leaveFrame_19 (l : Launch) (w : Wd) (hfl : l.stackTraces = false) (F d : Nat) (r : Hp) (this : Nat) (k_this : nd_Kd this = 5) (h : Hp) (hf : fX6_leaveFrame_19 F d this h = some r) : nd_V l w yX6_leaveFrame cX6_leaveFrame 1 none 2 40 (.inl none, r) h 19 [(0, vr (some this))] [] := by
  unfold fX6_leaveFrame_19 at hf
  refine nd_aload_n (j := 0) dX6_leaveFrame_19 rfl rfl ?_
  refine nd_dup dX6_leaveFrame_20 rfl ?_
  refine nd_getI (k := 47) dX6_leaveFrame_21 k_this rfl (Nat.le_of_ble_eq_true rfl) (nd_flO q1387) rfl ?_
  refine nd_aload_n (j := 0) dX6_leaveFrame_24 rfl rfl ?_
  refine nd_getP (k := 54) dX6_leaveFrame_25 k_this rfl (Nat.le_of_ble_eq_true rfl) (nd_flO q1394) rfl (fun ok1 => ?_)
  replace hf := nnE hf
  obtain ⟨a2, e_a2, hf⟩ := hf
  refine nd_topr e_a2.symm ?_
  have k_a2 : nd_Kd a2 = 22 := nd_c1 (ok1 a2 e_a2)
  refine nd_aload_n (j := 0) dX6_leaveFrame_28 rfl rfl ?_
  refine nd_getI (k := 48) dX6_leaveFrame_29 k_this rfl (Nat.le_of_ble_eq_true rfl) (nd_flO q1388) rfl ?_
  refine nd_iconst (v := 1) dX6_leaveFrame_32 (by decide) ?_
  refine nd_isub dX6_leaveFrame_33 ?_
  replace hf := ckE hf
  obtain ⟨c3, hf⟩ := hf
  refine nd_zald dX6_leaveFrame_34 k_a2 c3 ?_
  refine nd_if_eq (tgt := 42) dX6_leaveFrame_35 (by decide) (fun c4 => ?_) (fun c4 => ?_)
  · replace hf := ifp c4 hf
    refine nd_iconst (v := 0) dX6_leaveFrame_42 (by decide) ?_
    exact nd_loc [0] rfl (tX6_leaveFrame_43 l w hfl F d r _ _ _ _ k_this k_this _ hf)
  · replace hf := ifn c4 hf
    refine nd_iconst (v := 2) dX6_leaveFrame_38 (by decide) ?_
    refine nd_goto (tgt := 43) dX6_leaveFrame_39 (by decide) ?_
    exact nd_loc [0] rfl (tX6_leaveFrame_43 l w hfl F d r _ _ _ _ k_this k_this _ hf)
set_option maxHeartbeats 4000000 in
theorem tX6_leaveFrame (l : Launch) (w : Wd) (hfl : l.stackTraces = false) (F d : Nat) {this : Nat} (k_this : nd_Kd this = 5) {h : Hp} {r : Hp} (hf : fX6_leaveFrame F d this h = some r) : nd_C l w yX6_leaveFrame cX6_leaveFrame 1 none 2 40 [vr (some this)] h (.inl none, r) := by
  refine nd_start (as := [vr (some this)]) hfl (by decide) (Nat.le_of_ble_eq_true rfl) ?_
  unfold fX6_leaveFrame at hf
  refine nd_eqL (L' := [(0, vr (some this))]) rfl ?_
  refine nd_aload_n (j := 0) dX6_leaveFrame_0 rfl rfl ?_
  refine nd_getI (k := 49) dX6_leaveFrame_1 k_this rfl (Nat.le_of_ble_eq_true rfl) (nd_flO q1389) rfl ?_
  refine nd_if_eq (tgt := 19) dX6_leaveFrame_4 (by decide) (fun c1 => ?_) (fun c1 => ?_)
  · replace hf := ifp c1 hf
    exact nd_loc [0] rfl (tX6_leaveFrame_19 l w hfl F d r _ k_this _ hf)
  · replace hf := ifn c1 hf
    refine nd_aload_n (j := 0) dX6_leaveFrame_7 rfl rfl ?_
    replace hf := caE hf
    obtain ⟨v3, h2, e_h2, hf⟩ := hf
    refine nd_Vi [] (tX6_isEnd l w hfl F d k_this e_h2) rfl dX6_leaveFrame_8 mw_X6_isEnd (Or.inl q1710) k_this rfl q1712 qs66 (by omega) (by omega) (Nat.le_of_ble_eq_true rfl) ?_
    refine nd_if_ne (tgt := 19) dX6_leaveFrame_11 (by decide) (fun c4 => ?_) (fun c4 => ?_)
    · replace hf := ifn c4 hf
      exact nd_loc [0] rfl (tX6_leaveFrame_19 l w hfl F d r _ k_this _ hf)
    · replace hf := ifp c4 hf
      refine nd_aload_n (j := 0) dX6_leaveFrame_14 rfl rfl ?_
      refine nd_iconst (v := 0) dX6_leaveFrame_15 (by decide) ?_
      refine nd_putZ (k := 49) (by decide) dX6_leaveFrame_16 k_this rfl (Nat.le_of_ble_eq_true rfl) (nd_flO q1389) rfl rfl rfl ?_
      replace hf := bnE hf
      obtain ⟨h5, e_h5, hf⟩ := hf
      refine nd_hp e_h5 ?_
      exact nd_loc [0] rfl (tX6_leaveFrame_19 l w hfl F d r _ k_this _ hf)
def fX6_absent_23 (F d : Nat) (this : Nat) (x1 : Int32) (x3 : Int32) (x4 : Int32) (h : Hp) : Option (Hp) :=
  nn (gP h 621 this) fun a2 => (
  ck (inb x4 (nd_Ln a2)) (
  if (gA h a2 (Int32.toNatClampNeg x4)) = 2 then
  (nn (gP h 637 this) fun a6 => (
  ck (inb x1 (nd_Ln a6)) (
  ck (inb x1 (nd_Ln a6)) (
  bn (sA h a6 (Int32.toNatClampNeg x1) ((gA h a6 (Int32.toNatClampNeg x1)) + 1)) fun h9 => (
  nn (gP h9 620 this) fun a11 => (
  ck (inb x4 (nd_Ln a11)) (
  nn (gP h9 622 this) fun a14 => (
  ck (inb x4 (nd_Ln a14)) (
  ca (fX6_adds F d this (gA h9 a11 (Int32.toNatClampNeg x4)) x1 x3 (gA h9 a14 (Int32.toNatClampNeg x4)) h9) fun v17 h16 => (
  some h16))))))))))
  else
  (some h)))
def fX6_absent (F d : Nat) (this : Nat) (p0 : Int32) (p1 : Int32) (p2 : Int32) (h : Hp) : Option (Hp) :=
  bn ((6 * p1) + p2) fun v1 => (
  nn (gP h 621 this) fun a3 => (
  ck (inb v1 (nd_Ln a3)) (
  if (gA h a3 (Int32.toNatClampNeg v1)) = 0 then
  (bn (sI h 649 this 0) fun h6 => (
  fX6_absent_23 F d this p0 p2 v1 h6))
  else
  (fX6_absent_23 F d this p0 p2 v1 h))))
theorem mw_X6_absent : nd_MW yX6_absent cX6_absent 5 none 3 := ⟨q1725, q91, by decide, by decide, by decide +kernel⟩
set_option maxHeartbeats 4000000 in
theorem tX6_absent_23 (l : Launch) (w : Wd) (hfl : l.stackTraces = false) (F d : Nat) (r : Hp) (this : Nat) (x1 : Int32) (x3 : Int32) (x4 : Int32) (k_this : nd_Kd this = 5) (h : Hp) (hf : fX6_absent_23 F d this x1 x3 x4 h = some r) : nd_V l w yX6_absent cX6_absent 5 none 1 24 (.inl none, r) h 23 [(0, vr (some this)), (1, vi x1), (3, vi x3), (4, vi x4)] [] := by
  unfold fX6_absent_23 at hf
  refine nd_aload_n (j := 0) dX6_absent_23 rfl rfl ?_
  refine nd_getP (k := 21) dX6_absent_24 k_this rfl (Nat.le_of_ble_eq_true rfl) (nd_flO q1361) rfl (fun ok1 => ?_)
  replace hf := nnE hf
  obtain ⟨a2, e_a2, hf⟩ := hf
  refine nd_topr e_a2.symm ?_
  have k_a2 : nd_Kd a2 = 20 := nd_c1 (ok1 a2 e_a2)
  refine nd_iload (j := 3) dX6_absent_27 rfl ?_
  replace hf := ckE hf
  obtain ⟨c3, hf⟩ := hf
  refine nd_iald dX6_absent_29 k_a2 c3 ?_
  refine nd_iconst (v := 2) dX6_absent_30 (by decide) ?_
  refine nd_icmp_eq (tgt := 35) dX6_absent_31 (by decide) (fun c4 => ?_) (fun c4 => ?_)
  · replace hf := ifp c4 hf
    refine nd_aload_n (j := 0) dX6_absent_35 rfl rfl ?_
    refine nd_getP (k := 37) dX6_absent_36 k_this rfl (Nat.le_of_ble_eq_true rfl) (nd_flO q1377) rfl (fun ok5 => ?_)
    replace hf := nnE hf
    obtain ⟨a6, e_a6, hf⟩ := hf
    refine nd_topr e_a6.symm ?_
    have k_a6 : nd_Kd a6 = 20 := nd_c1 (ok5 a6 e_a6)
    refine nd_iload_n (j := 1) dX6_absent_39 rfl rfl ?_
    refine nd_dup2 dX6_absent_40 rfl rfl ?_
    replace hf := ckE hf
    obtain ⟨c7, hf⟩ := hf
    refine nd_iald dX6_absent_41 k_a6 c7 ?_
    refine nd_iconst (v := 1) dX6_absent_42 (by decide) ?_
    refine nd_iadd dX6_absent_43 ?_
    replace hf := ckE hf
    obtain ⟨c8, hf⟩ := hf
    refine nd_iast dX6_absent_44 k_a6 c8 ?_
    replace hf := bnE hf
    obtain ⟨h9, e_h9, hf⟩ := hf
    refine nd_hp e_h9 ?_
    refine nd_aload_n (j := 0) dX6_absent_45 rfl rfl ?_
    refine nd_aload_n (j := 0) dX6_absent_46 rfl rfl ?_
    refine nd_getP (k := 20) dX6_absent_47 k_this rfl (Nat.le_of_ble_eq_true rfl) (nd_flO q1360) rfl (fun ok10 => ?_)
    replace hf := nnE hf
    obtain ⟨a11, e_a11, hf⟩ := hf
    refine nd_topr e_a11.symm ?_
    have k_a11 : nd_Kd a11 = 20 := nd_c1 (ok10 a11 e_a11)
    refine nd_iload (j := 3) dX6_absent_50 rfl ?_
    replace hf := ckE hf
    obtain ⟨c12, hf⟩ := hf
    refine nd_iald dX6_absent_52 k_a11 c12 ?_
    refine nd_iload_n (j := 1) dX6_absent_53 rfl rfl ?_
    refine nd_iload_n (j := 2) dX6_absent_54 rfl rfl ?_
    refine nd_aload_n (j := 0) dX6_absent_55 rfl rfl ?_
    refine nd_getP (k := 22) dX6_absent_56 k_this rfl (Nat.le_of_ble_eq_true rfl) (nd_flO q1362) rfl (fun ok13 => ?_)
    replace hf := nnE hf
    obtain ⟨a14, e_a14, hf⟩ := hf
    refine nd_topr e_a14.symm ?_
    have k_a14 : nd_Kd a14 = 20 := nd_c1 (ok13 a14 e_a14)
    refine nd_iload (j := 3) dX6_absent_59 rfl ?_
    replace hf := ckE hf
    obtain ⟨c15, hf⟩ := hf
    refine nd_iald dX6_absent_61 k_a14 c15 ?_
    replace hf := caE hf
    obtain ⟨v17, h16, e_h16, hf⟩ := hf
    refine nd_Vi [] (tX6_adds l w hfl F d k_this e_h16) rfl dX6_absent_62 mw_X6_adds (Or.inl q1662) k_this rfl q1664 qs56 (by omega) (by omega) (Nat.le_of_ble_eq_true rfl) ?_
    refine nd_pop dX6_absent_65 rfl ?_
    cases hf
    exact nd_vret dX6_absent_66
  · replace hf := ifn c4 hf
    cases hf
    exact nd_vret dX6_absent_34
set_option maxHeartbeats 4000000 in
theorem tX6_absent (l : Launch) (w : Wd) (hfl : l.stackTraces = false) (F d : Nat) {this : Nat} {p0 : Int32} {p1 : Int32} {p2 : Int32} (k_this : nd_Kd this = 5) {h : Hp} {r : Hp} (hf : fX6_absent F d this p0 p1 p2 h = some r) : nd_C l w yX6_absent cX6_absent 5 none 1 24 [vr (some this), vi p0, vi p1, vi p2] h (.inl none, r) := by
  refine nd_start (as := [vr (some this), vi p0, vi p1, vi p2]) hfl (by decide) (Nat.le_of_ble_eq_true rfl) ?_
  unfold fX6_absent at hf
  refine nd_eqL (L' := [(0, vr (some this)), (1, vi p0), (2, vi p1), (3, vi p2)]) rfl ?_
  refine nd_bipush (v := 6) dX6_absent_0 (by decide) ?_
  refine nd_iload_n (j := 2) dX6_absent_2 rfl rfl ?_
  refine nd_imul dX6_absent_3 ?_
  refine nd_iload_n (j := 3) dX6_absent_4 rfl rfl ?_
  refine nd_iadd dX6_absent_5 ?_
  replace hf := bnE hf
  obtain ⟨v1, e_v1, hf⟩ := hf
  refine nd_top e_v1 ?_
  refine nd_istore [(4, vi v1), (0, vr (some this)), (1, vi p0), (2, vi p1), (3, vi p2)] dX6_absent_6 (Nat.le_of_ble_eq_true rfl) rfl ?_
  refine nd_aload_n (j := 1) dX6_absent_8 rfl rfl ?_
  refine nd_getP (k := 21) dX6_absent_9 k_this rfl (Nat.le_of_ble_eq_true rfl) (nd_flO q1361) rfl (fun ok2 => ?_)
  replace hf := nnE hf
  obtain ⟨a3, e_a3, hf⟩ := hf
  refine nd_topr e_a3.symm ?_
  have k_a3 : nd_Kd a3 = 20 := nd_c1 (ok2 a3 e_a3)
  refine nd_iload (j := 0) dX6_absent_12 rfl ?_
  replace hf := ckE hf
  obtain ⟨c4, hf⟩ := hf
  refine nd_iald dX6_absent_14 k_a3 c4 ?_
  refine nd_if_ne (tgt := 23) dX6_absent_15 (by decide) (fun c5 => ?_) (fun c5 => ?_)
  · replace hf := ifn c5 hf
    exact nd_loc [1, 2, 4, 0] rfl (tX6_absent_23 l w hfl F d r _ _ _ _ k_this _ hf)
  · replace hf := ifp c5 hf
    refine nd_aload_n (j := 1) dX6_absent_18 rfl rfl ?_
    refine nd_iconst (v := 0) dX6_absent_19 (by decide) ?_
    refine nd_putZ (k := 49) (by decide) dX6_absent_20 k_this rfl (Nat.le_of_ble_eq_true rfl) (nd_flO q1389) rfl rfl rfl ?_
    replace hf := bnE hf
    obtain ⟨h6, e_h6, hf⟩ := hf
    refine nd_hp e_h6 ?_
    exact nd_loc [1, 2, 4, 0] rfl (tX6_absent_23 l w hfl F d r _ _ _ _ k_this _ hf)
def fX6_goOn_112 (F d : Nat) (this : Nat) (s0 : Nat) (s1 : Int32) (h : Hp) : Option (Hp) :=
  ck (isB s1) (
  bn (sI h 649 s0 s1) fun h1 => (
  cv (fX6_leaveFrame F d this h1) fun h3 => (
  some h3)))
def fX6_goOn_107 (F d : Nat) (this : Nat) (s0 : Nat) (h : Hp) : Option (Hp) :=
  fX6_goOn_112 F d this s0 1 h
def fX6_goOn_66 (F d : Nat) (this : Nat) (x2 : Int32) (x4 : Int32) (h : Hp) : Option (Hp) :=
  if x2 < 0 then
  (fX6_goOn_107 F d this this h)
  else
  (nn (gP h 618 this) fun a3 => (
  ck (inb x4 (nd_Ln a3)) (
  if (gA h a3 (Int32.toNatClampNeg x4)) = 0 then
  (fX6_goOn_107 F d this this h)
  else
  (nn (gP h 637 this) fun a7 => (
  ck (inb x2 (nd_Ln a7)) (
  nn (gP h 612 this) fun a10 => (
  ck (inb x4 (nd_Ln a10)) (
  nn (gP h 613 this) fun a13 => (
  ck (inb x4 (nd_Ln a13)) (
  ca (fX6_in F d (gA h a7 (Int32.toNatClampNeg x2)) (gA h a10 (Int32.toNatClampNeg x4)) (gA h a13 (Int32.toNatClampNeg x4)) h) fun v16 h15 => (
  if v16 = 0 then
  (fX6_goOn_112 F d this this 0 h15)
  else
  (fX6_goOn_107 F d this this h15))))))))))))
def fX6_goOn_265 (F d : Nat) (this : Nat) (x1 : Int32) (x2 : Int32) (x4 : Int32) (x6 : Int32) (h : Hp) : Option (Hp) :=
  nn (gP h 652 this) fun a2 => (
  ck (inb x1 (nd_Ln a2)) (
  bn (sA h a2 (Int32.toNatClampNeg x1) (x6 + 1)) fun h4 => (
  nn (gP h4 615 this) fun a6 => (
  ck (inb x4 (nd_Ln a6)) (
  if x6 = (gA h4 a6 (Int32.toNatClampNeg x4)) then
  (cv (fX6_leaveFrame F d this h4) fun h20 => (
  some h20))
  else
  (if (gI h4 649 this) = 0 then
  (some h4)
  else
  (nn (gP h4 637 this) fun a11 => (
  ck (inb x2 (nd_Ln a11)) (
  ck (inb x2 (nd_Ln a11)) (
  bn (sA h4 a11 (Int32.toNatClampNeg x2) ((gA h4 a11 (Int32.toNatClampNeg x2)) + 1)) fun h14 => (
  nn (gP h14 620 this) fun a16 => (
  ck (inb ((6 * x4) + x6) (nd_Ln a16)) (
  cv (fX6_element F d this (gA h14 a16 (Int32.toNatClampNeg ((6 * x4) + x6))) x2 x6 h14) fun h18 => (
  some h18))))))))))))))
def fX6_goOn_207 (F d : Nat) : Nat → Nat → Int32 → Int32 → Int32 → Int32 → Int32 → Hp → Option (Hp)
  | 0, _, _, _, _, _, _, _ => none
  | n + 1, this, x1, x2, x4, x5, x6, h =>
    if (gI h 649 this) = 0 then
    (fX6_goOn_265 F d this x1 x2 x4 x6 h)
    else
    (nn (gP h 615 this) fun a3 => (
    ck (inb x4 (nd_Ln a3)) (
    if (gA h a3 (Int32.toNatClampNeg x4)) ≤ x6 then
    (fX6_goOn_265 F d this x1 x2 x4 x6 h)
    else
    (nn (gP h 616 this) fun a7 => (
    nn (gP h 620 this) fun a9 => (
    ck (inb ((6 * x4) + x6) (nd_Ln a9)) (
    ck (inb (gA h a9 (Int32.toNatClampNeg ((6 * x4) + x6))) (nd_Ln a7)) (
    if ((gA h a7 (Int32.toNatClampNeg (gA h a9 (Int32.toNatClampNeg ((6 * x4) + x6))))) &&& x5) = 0 then
    (cv (fX6_absent F d this x2 x4 x6 h) fun h13 => (
    bn (x6 + 1) fun v15 => (
    fX6_goOn_207 F d n this x1 x2 x4 x5 v15 h13)))
    else
    (fX6_goOn_265 F d this x1 x2 x4 x6 h)))))))))
def fX6_goOn_197 (F d : Nat) (this : Nat) (x1 : Int32) (x2 : Int32) (x4 : Int32) (s0 : Int32) (h : Hp) : Option (Hp) :=
  nn (gP h 652 this) fun a2 => (
  ck (inb x1 (nd_Ln a2)) (
  bn (gA h a2 (Int32.toNatClampNeg x1)) fun v4 => (
  fX6_goOn_207 F d F this x1 x2 x4 s0 v4 h)))
def fX6_goOn_196 (F d : Nat) (this : Nat) (x1 : Int32) (x2 : Int32) (x4 : Int32) (h : Hp) : Option (Hp) :=
  fX6_goOn_197 F d this x1 x2 x4 0 h
def fX6_goOn_120 (F d : Nat) (this : Nat) (x1 : Int32) (x2 : Int32) (x3 : Int32) (x4 : Int32) (h : Hp) : Option (Hp) :=
  nn (gP h 611 this) fun a2 => (
  ck (inb x4 (nd_Ln a2)) (
  if (gA h a2 (Int32.toNatClampNeg x4)) = 7 then
  (nn (gP h 637 this) fun a15 => (
  ck (inb x2 (nd_Ln a15)) (
  ck (inb x2 (nd_Ln a15)) (
  bn (sA h a15 (Int32.toNatClampNeg x2) ((gA h a15 (Int32.toNatClampNeg x2)) + 1)) fun h18 => (
  nn (gP h18 620 this) fun a20 => (
  ck (inb (6 * x4) (nd_Ln a20)) (
  nn (gP h18 637 this) fun a23 => (
  ck (inb x2 (nd_Ln a23)) (
  cv (fX6_element F d this (gA h18 a20 (Int32.toNatClampNeg (6 * x4))) x2 ((gA h18 a23 (Int32.toNatClampNeg x2)) - 1) h18) fun h25 => (
  some h25))))))))))
  else
  (if x3 = 0 then
  (ca (fX6_bound F d this h) fun v7 h6 => (
  if v7 ≤ (gI h 647 this) then
  (fX6_goOn_196 F d this x1 x2 x4 h6)
  else
  (nn (gP h6 632 this) fun a10 => (
  ck (inb (gI h6 647 this) (nd_Ln a10)) (
  ca (fX6_bitOf F d (gA h6 a10 (Int32.toNatClampNeg (gI h6 647 this))) h6) fun v13 h12 => (
  fX6_goOn_197 F d this x1 x2 x4 v13 h12))))))
  else
  (fX6_goOn_196 F d this x1 x2 x4 h))))
def fX6_goOn_44 (F d : Nat) (this : Nat) (x1 : Int32) (x2 : Int32) (x3 : Int32) (s0 : Int32) (h : Hp) : Option (Hp) :=
  if x2 < 0 then
  (fX6_goOn_66 F d this x2 s0 h)
  else
  (nn (gP h 611 this) fun a3 => (
  ck (inb s0 (nd_Ln a3)) (
  if (gA h a3 (Int32.toNatClampNeg s0)) = 7 then
  (if x3 = 0 then
  (fX6_goOn_120 F d this x1 x2 x3 s0 h)
  else
  (fX6_goOn_66 F d this x2 s0 h))
  else
  (fX6_goOn_120 F d this x1 x2 x3 s0 h))))
def fX6_goOn_30 (F d : Nat) (this : Nat) (x1 : Int32) (x2 : Int32) (s0 : Int32) (h : Hp) : Option (Hp) :=
  if 0 ≤ x2 then
  (ca (fX6_baseOf F d this x2 h) fun v3 h2 => (
  fX6_goOn_44 F d this x1 x2 s0 v3 h2))
  else
  (fX6_goOn_44 F d this x1 x2 s0 (-1) h)
def fX6_goOn_25 (F d : Nat) (this : Nat) (x1 : Int32) (x2 : Int32) (h : Hp) : Option (Hp) :=
  fX6_goOn_30 F d this x1 x2 1 h
def fX6_goOn (F d : Nat) (this : Nat) (h : Hp) : Option (Hp) :=
  bn ((gI h 648 this) - 1) fun v1 => (
  nn (gP h 650 this) fun a3 => (
  ck (inb v1 (nd_Ln a3)) (
  bn (gA h a3 (Int32.toNatClampNeg v1)) fun v5 => (
  if v5 < 0 then
  (fX6_goOn_25 F d this v1 v5 h)
  else
  (ca (fX6_isEnd F d this h) fun v8 h7 => (
  if v8 = 0 then
  (fX6_goOn_30 F d this v1 v5 0 h7)
  else
  (fX6_goOn_25 F d this v1 v5 h7)))))))
theorem mw_X6_goOn : nd_MW yX6_goOn cX6_goOn 7 none 0 := ⟨q1709, q91, by decide, by decide, by decide +kernel⟩
set_option maxHeartbeats 4000000 in
theorem tX6_goOn_112 (l : Launch) (w : Wd) (hfl : l.stackTraces = false) (F d : Nat) (r : Hp) (this : Nat) (s0 : Nat) (s1 : Int32) (k_this : nd_Kd this = 5) (k_s0 : nd_Kd s0 = 5) (h : Hp) (hf : fX6_goOn_112 F d this s0 s1 h = some r) : nd_V l w yX6_goOn cX6_goOn 7 none 6 143 (.inl none, r) h 112 [(0, vr (some this))] [vi s1, vr (some s0)] := by
  unfold fX6_goOn_112 at hf
  replace hf := ckE hf
  obtain ⟨c2, hf⟩ := hf
  refine nd_putZ (k := 49) c2 dX6_goOn_112 k_s0 rfl (Nat.le_of_ble_eq_true rfl) (nd_flO q1389) rfl rfl rfl ?_
  replace hf := bnE hf
  obtain ⟨h1, e_h1, hf⟩ := hf
  refine nd_hp e_h1 ?_
  refine nd_aload_n (j := 0) dX6_goOn_115 rfl rfl ?_
  replace hf := cvE hf
  obtain ⟨h3, e_h3, hf⟩ := hf
  refine nd_Vv [] (tX6_leaveFrame l w hfl F d k_this e_h3) rfl dX6_goOn_116 mw_X6_leaveFrame (Or.inl q1718) k_this rfl q1720 qs68 (by omega) (by omega) (Nat.le_of_ble_eq_true rfl) ?_
  cases hf
  exact nd_vret dX6_goOn_119
set_option maxHeartbeats 4000000 in
theorem tX6_goOn_107 (l : Launch) (w : Wd) (hfl : l.stackTraces = false) (F d : Nat) (r : Hp) (this : Nat) (s0 : Nat) (k_this : nd_Kd this = 5) (k_s0 : nd_Kd s0 = 5) (h : Hp) (hf : fX6_goOn_107 F d this s0 h = some r) : nd_V l w yX6_goOn cX6_goOn 7 none 6 143 (.inl none, r) h 107 [(0, vr (some this))] [vr (some s0)] := by
  unfold fX6_goOn_107 at hf
  refine nd_iconst (v := 1) dX6_goOn_107 (by decide) ?_
  refine nd_goto (tgt := 112) dX6_goOn_108 (by decide) ?_
  exact nd_loc [0] rfl (tX6_goOn_112 l w hfl F d r _ _ _ k_this k_s0 _ hf)
set_option maxHeartbeats 4000000 in
theorem tX6_goOn_66 (l : Launch) (w : Wd) (hfl : l.stackTraces = false) (F d : Nat) (r : Hp) (this : Nat) (x2 : Int32) (x4 : Int32) (k_this : nd_Kd this = 5) (h : Hp) (hf : fX6_goOn_66 F d this x2 x4 h = some r) : nd_V l w yX6_goOn cX6_goOn 7 none 6 143 (.inl none, r) h 66 [(0, vr (some this)), (2, vi x2), (4, vi x4)] [] := by
  unfold fX6_goOn_66 at hf
  refine nd_aload_n (j := 0) dX6_goOn_66 rfl rfl ?_
  refine nd_iload_n (j := 1) dX6_goOn_67 rfl rfl ?_
  refine nd_if_lt (tgt := 107) dX6_goOn_68 (by decide) (fun c1 => ?_) (fun c1 => ?_)
  · replace hf := ifp c1 hf
    exact nd_loc [0] rfl (tX6_goOn_107 l w hfl F d r _ _ k_this k_this _ hf)
  · replace hf := ifn c1 hf
    refine nd_aload_n (j := 0) dX6_goOn_71 rfl rfl ?_
    refine nd_getP (k := 18) dX6_goOn_72 k_this rfl (Nat.le_of_ble_eq_true rfl) (nd_flO q1358) rfl (fun ok2 => ?_)
    replace hf := nnE hf
    obtain ⟨a3, e_a3, hf⟩ := hf
    refine nd_topr e_a3.symm ?_
    have k_a3 : nd_Kd a3 = 22 := nd_c1 (ok2 a3 e_a3)
    refine nd_iload (j := 2) dX6_goOn_75 rfl ?_
    replace hf := ckE hf
    obtain ⟨c4, hf⟩ := hf
    refine nd_zald dX6_goOn_77 k_a3 c4 ?_
    refine nd_if_eq (tgt := 107) dX6_goOn_78 (by decide) (fun c5 => ?_) (fun c5 => ?_)
    · replace hf := ifp c5 hf
      exact nd_loc [0] rfl (tX6_goOn_107 l w hfl F d r _ _ k_this k_this _ hf)
    · replace hf := ifn c5 hf
      refine nd_aload_n (j := 0) dX6_goOn_81 rfl rfl ?_
      refine nd_getP (k := 37) dX6_goOn_82 k_this rfl (Nat.le_of_ble_eq_true rfl) (nd_flO q1377) rfl (fun ok6 => ?_)
      replace hf := nnE hf
      obtain ⟨a7, e_a7, hf⟩ := hf
      refine nd_topr e_a7.symm ?_
      have k_a7 : nd_Kd a7 = 20 := nd_c1 (ok6 a7 e_a7)
      refine nd_iload_n (j := 1) dX6_goOn_85 rfl rfl ?_
      replace hf := ckE hf
      obtain ⟨c8, hf⟩ := hf
      refine nd_iald dX6_goOn_86 k_a7 c8 ?_
      refine nd_aload_n (j := 0) dX6_goOn_87 rfl rfl ?_
      refine nd_getP (k := 12) dX6_goOn_88 k_this rfl (Nat.le_of_ble_eq_true rfl) (nd_flO q1352) rfl (fun ok9 => ?_)
      replace hf := nnE hf
      obtain ⟨a10, e_a10, hf⟩ := hf
      refine nd_topr e_a10.symm ?_
      have k_a10 : nd_Kd a10 = 20 := nd_c1 (ok9 a10 e_a10)
      refine nd_iload (j := 2) dX6_goOn_91 rfl ?_
      replace hf := ckE hf
      obtain ⟨c11, hf⟩ := hf
      refine nd_iald dX6_goOn_93 k_a10 c11 ?_
      refine nd_aload_n (j := 0) dX6_goOn_94 rfl rfl ?_
      refine nd_getP (k := 13) dX6_goOn_95 k_this rfl (Nat.le_of_ble_eq_true rfl) (nd_flO q1353) rfl (fun ok12 => ?_)
      replace hf := nnE hf
      obtain ⟨a13, e_a13, hf⟩ := hf
      refine nd_topr e_a13.symm ?_
      have k_a13 : nd_Kd a13 = 20 := nd_c1 (ok12 a13 e_a13)
      refine nd_iload (j := 2) dX6_goOn_98 rfl ?_
      replace hf := ckE hf
      obtain ⟨c14, hf⟩ := hf
      refine nd_iald dX6_goOn_100 k_a13 c14 ?_
      replace hf := caE hf
      obtain ⟨v16, h15, e_h15, hf⟩ := hf
      refine nd_Si [vr (some this)] (tX6_in l w hfl F d e_h15) rfl dX6_goOn_101 mw_X6_in (Or.inl q1542) q1543 (by omega) (by omega) (Nat.le_of_ble_eq_true rfl) ?_
      refine nd_if_eq (tgt := 111) dX6_goOn_104 (by decide) (fun c17 => ?_) (fun c17 => ?_)
      · replace hf := ifp c17 hf
        refine nd_iconst (v := 0) dX6_goOn_111 (by decide) ?_
        exact nd_loc [0] rfl (tX6_goOn_112 l w hfl F d r _ _ _ k_this k_this _ hf)
      · replace hf := ifn c17 hf
        exact nd_loc [0] rfl (tX6_goOn_107 l w hfl F d r _ _ k_this k_this _ hf)
set_option maxHeartbeats 4000000 in
theorem tX6_goOn_265 (l : Launch) (w : Wd) (hfl : l.stackTraces = false) (F d : Nat) (r : Hp) (this : Nat) (x1 : Int32) (x2 : Int32) (x4 : Int32) (x6 : Int32) (k_this : nd_Kd this = 5) (h : Hp) (hf : fX6_goOn_265 F d this x1 x2 x4 x6 h = some r) : nd_V l w yX6_goOn cX6_goOn 7 none 6 143 (.inl none, r) h 265 [(0, vr (some this)), (1, vi x1), (2, vi x2), (4, vi x4), (6, vi x6)] [] := by
  unfold fX6_goOn_265 at hf
  refine nd_aload_n (j := 0) dX6_goOn_265 rfl rfl ?_
  refine nd_getP (k := 52) dX6_goOn_266 k_this rfl (Nat.le_of_ble_eq_true rfl) (nd_flO q1392) rfl (fun ok1 => ?_)
  replace hf := nnE hf
  obtain ⟨a2, e_a2, hf⟩ := hf
  refine nd_topr e_a2.symm ?_
  have k_a2 : nd_Kd a2 = 20 := nd_c1 (ok1 a2 e_a2)
  refine nd_iload_n (j := 1) dX6_goOn_269 rfl rfl ?_
  refine nd_iload (j := 4) dX6_goOn_270 rfl ?_
  refine nd_iconst (v := 1) dX6_goOn_272 (by decide) ?_
  refine nd_iadd dX6_goOn_273 ?_
  replace hf := ckE hf
  obtain ⟨c3, hf⟩ := hf
  refine nd_iast dX6_goOn_274 k_a2 c3 ?_
  replace hf := bnE hf
  obtain ⟨h4, e_h4, hf⟩ := hf
  refine nd_hp e_h4 ?_
  refine nd_iload (j := 4) dX6_goOn_275 rfl ?_
  refine nd_aload_n (j := 0) dX6_goOn_277 rfl rfl ?_
  refine nd_getP (k := 15) dX6_goOn_278 k_this rfl (Nat.le_of_ble_eq_true rfl) (nd_flO q1355) rfl (fun ok5 => ?_)
  replace hf := nnE hf
  obtain ⟨a6, e_a6, hf⟩ := hf
  refine nd_topr e_a6.symm ?_
  have k_a6 : nd_Kd a6 = 20 := nd_c1 (ok5 a6 e_a6)
  refine nd_iload (j := 3) dX6_goOn_281 rfl ?_
  replace hf := ckE hf
  obtain ⟨c7, hf⟩ := hf
  refine nd_iald dX6_goOn_283 k_a6 c7 ?_
  refine nd_icmp_ne (tgt := 294) dX6_goOn_284 (by decide) (fun c8 => ?_) (fun c8 => ?_)
  · replace hf := ifn c8 hf
    refine nd_aload_n (j := 0) dX6_goOn_294 rfl rfl ?_
    refine nd_getI (k := 49) dX6_goOn_295 k_this rfl (Nat.le_of_ble_eq_true rfl) (nd_flO q1389) rfl ?_
    refine nd_if_eq (tgt := 331) dX6_goOn_298 (by decide) (fun c9 => ?_) (fun c9 => ?_)
    · replace hf := ifp c9 hf
      cases hf
      exact nd_vret dX6_goOn_331
    · replace hf := ifn c9 hf
      refine nd_aload_n (j := 0) dX6_goOn_301 rfl rfl ?_
      refine nd_getP (k := 37) dX6_goOn_302 k_this rfl (Nat.le_of_ble_eq_true rfl) (nd_flO q1377) rfl (fun ok10 => ?_)
      replace hf := nnE hf
      obtain ⟨a11, e_a11, hf⟩ := hf
      refine nd_topr e_a11.symm ?_
      have k_a11 : nd_Kd a11 = 20 := nd_c1 (ok10 a11 e_a11)
      refine nd_iload_n (j := 2) dX6_goOn_305 rfl rfl ?_
      refine nd_dup2 dX6_goOn_306 rfl rfl ?_
      replace hf := ckE hf
      obtain ⟨c12, hf⟩ := hf
      refine nd_iald dX6_goOn_307 k_a11 c12 ?_
      refine nd_iconst (v := 1) dX6_goOn_308 (by decide) ?_
      refine nd_iadd dX6_goOn_309 ?_
      replace hf := ckE hf
      obtain ⟨c13, hf⟩ := hf
      refine nd_iast dX6_goOn_310 k_a11 c13 ?_
      replace hf := bnE hf
      obtain ⟨h14, e_h14, hf⟩ := hf
      refine nd_hp e_h14 ?_
      refine nd_aload_n (j := 0) dX6_goOn_311 rfl rfl ?_
      refine nd_aload_n (j := 0) dX6_goOn_312 rfl rfl ?_
      refine nd_getP (k := 20) dX6_goOn_313 k_this rfl (Nat.le_of_ble_eq_true rfl) (nd_flO q1360) rfl (fun ok15 => ?_)
      replace hf := nnE hf
      obtain ⟨a16, e_a16, hf⟩ := hf
      refine nd_topr e_a16.symm ?_
      have k_a16 : nd_Kd a16 = 20 := nd_c1 (ok15 a16 e_a16)
      refine nd_bipush (v := 6) dX6_goOn_316 (by decide) ?_
      refine nd_iload (j := 3) dX6_goOn_318 rfl ?_
      refine nd_imul dX6_goOn_320 ?_
      refine nd_iload (j := 4) dX6_goOn_321 rfl ?_
      refine nd_iadd dX6_goOn_323 ?_
      replace hf := ckE hf
      obtain ⟨c17, hf⟩ := hf
      refine nd_iald dX6_goOn_324 k_a16 c17 ?_
      refine nd_iload_n (j := 2) dX6_goOn_325 rfl rfl ?_
      refine nd_iload (j := 4) dX6_goOn_326 rfl ?_
      replace hf := cvE hf
      obtain ⟨h18, e_h18, hf⟩ := hf
      refine nd_Vv [] (tX6_element l w hfl F d k_this e_h18) rfl dX6_goOn_328 mw_X6_element (Or.inl q1635) k_this rfl q1637 qs50 (by omega) (by omega) (Nat.le_of_ble_eq_true rfl) ?_
      cases hf
      exact nd_vret dX6_goOn_331
  · replace hf := ifp c8 hf
    refine nd_aload_n (j := 0) dX6_goOn_287 rfl rfl ?_
    replace hf := cvE hf
    obtain ⟨h20, e_h20, hf⟩ := hf
    refine nd_Vv [] (tX6_leaveFrame l w hfl F d k_this e_h20) rfl dX6_goOn_288 mw_X6_leaveFrame (Or.inl q1718) k_this rfl q1720 qs68 (by omega) (by omega) (Nat.le_of_ble_eq_true rfl) ?_
    refine nd_goto (tgt := 331) dX6_goOn_291 (by decide) ?_
    cases hf
    exact nd_vret dX6_goOn_331
set_option maxHeartbeats 4000000 in
theorem tX6_goOn_207 (l : Launch) (w : Wd) (hfl : l.stackTraces = false) (F d : Nat) (r : Hp) : ∀ (n : Nat) (this : Nat) (x1 : Int32) (x2 : Int32) (x4 : Int32) (x5 : Int32) (x6 : Int32) (k_this : nd_Kd this = 5) (h : Hp), fX6_goOn_207 F d n this x1 x2 x4 x5 x6 h = some r → nd_V l w yX6_goOn cX6_goOn 7 none 6 143 (.inl none, r) h 207 [(0, vr (some this)), (1, vi x1), (2, vi x2), (4, vi x4), (5, vi x5), (6, vi x6)] [] := by
  intro n
  induction n with
  | zero => intro _ _ _ _ _ _ _ _ hf; cases hf
  | succ n ih =>
    intro this x1 x2 x4 x5 x6 k_this h hf
    unfold fX6_goOn_207 at hf
    refine nd_aload_n (j := 0) dX6_goOn_207 rfl rfl ?_
    refine nd_getI (k := 49) dX6_goOn_208 k_this rfl (Nat.le_of_ble_eq_true rfl) (nd_flO q1389) rfl ?_
    refine nd_if_eq (tgt := 265) dX6_goOn_211 (by decide) (fun c1 => ?_) (fun c1 => ?_)
    · replace hf := ifp c1 hf
      exact nd_loc [0, 1, 2, 3, 5] rfl (tX6_goOn_265 l w hfl F d r _ _ _ _ _ k_this _ hf)
    · replace hf := ifn c1 hf
      refine nd_iload (j := 5) dX6_goOn_214 rfl ?_
      refine nd_aload_n (j := 0) dX6_goOn_216 rfl rfl ?_
      refine nd_getP (k := 15) dX6_goOn_217 k_this rfl (Nat.le_of_ble_eq_true rfl) (nd_flO q1355) rfl (fun ok2 => ?_)
      replace hf := nnE hf
      obtain ⟨a3, e_a3, hf⟩ := hf
      refine nd_topr e_a3.symm ?_
      have k_a3 : nd_Kd a3 = 20 := nd_c1 (ok2 a3 e_a3)
      refine nd_iload (j := 3) dX6_goOn_220 rfl ?_
      replace hf := ckE hf
      obtain ⟨c4, hf⟩ := hf
      refine nd_iald dX6_goOn_222 k_a3 c4 ?_
      refine nd_icmp_ge (tgt := 265) dX6_goOn_223 (by decide) (fun c5 => ?_) (fun c5 => ?_)
      · replace hf := ifp c5 hf
        exact nd_loc [0, 1, 2, 3, 5] rfl (tX6_goOn_265 l w hfl F d r _ _ _ _ _ k_this _ hf)
      · replace hf := ifn c5 hf
        refine nd_aload_n (j := 0) dX6_goOn_226 rfl rfl ?_
        refine nd_getP (k := 16) dX6_goOn_227 k_this rfl (Nat.le_of_ble_eq_true rfl) (nd_flO q1356) rfl (fun ok6 => ?_)
        replace hf := nnE hf
        obtain ⟨a7, e_a7, hf⟩ := hf
        refine nd_topr e_a7.symm ?_
        have k_a7 : nd_Kd a7 = 20 := nd_c1 (ok6 a7 e_a7)
        refine nd_aload_n (j := 0) dX6_goOn_230 rfl rfl ?_
        refine nd_getP (k := 20) dX6_goOn_231 k_this rfl (Nat.le_of_ble_eq_true rfl) (nd_flO q1360) rfl (fun ok8 => ?_)
        replace hf := nnE hf
        obtain ⟨a9, e_a9, hf⟩ := hf
        refine nd_topr e_a9.symm ?_
        have k_a9 : nd_Kd a9 = 20 := nd_c1 (ok8 a9 e_a9)
        refine nd_bipush (v := 6) dX6_goOn_234 (by decide) ?_
        refine nd_iload (j := 3) dX6_goOn_236 rfl ?_
        refine nd_imul dX6_goOn_238 ?_
        refine nd_iload (j := 5) dX6_goOn_239 rfl ?_
        refine nd_iadd dX6_goOn_241 ?_
        replace hf := ckE hf
        obtain ⟨c10, hf⟩ := hf
        refine nd_iald dX6_goOn_242 k_a9 c10 ?_
        replace hf := ckE hf
        obtain ⟨c11, hf⟩ := hf
        refine nd_iald dX6_goOn_243 k_a7 c11 ?_
        refine nd_iload (j := 4) dX6_goOn_244 rfl ?_
        refine nd_iand dX6_goOn_246 ?_
        refine nd_if_ne (tgt := 265) dX6_goOn_247 (by decide) (fun c12 => ?_) (fun c12 => ?_)
        · replace hf := ifn c12 hf
          exact nd_loc [0, 1, 2, 3, 5] rfl (tX6_goOn_265 l w hfl F d r _ _ _ _ _ k_this _ hf)
        · replace hf := ifp c12 hf
          refine nd_aload_n (j := 0) dX6_goOn_250 rfl rfl ?_
          refine nd_iload_n (j := 2) dX6_goOn_251 rfl rfl ?_
          refine nd_iload (j := 3) dX6_goOn_252 rfl ?_
          refine nd_iload (j := 5) dX6_goOn_254 rfl ?_
          replace hf := cvE hf
          obtain ⟨h13, e_h13, hf⟩ := hf
          refine nd_Vv [] (tX6_absent l w hfl F d k_this e_h13) rfl dX6_goOn_256 mw_X6_absent (Or.inl q1722) k_this rfl q1724 qs69 (by omega) (by omega) (Nat.le_of_ble_eq_true rfl) ?_
          replace hf := bnE hf
          obtain ⟨v15, e_v15, hf⟩ := hf
          refine nd_iinc (v := v15) (j := 5) [(6, vi v15), (0, vr (some this)), (1, vi x1), (2, vi x2), (4, vi x4), (5, vi x5)] dX6_goOn_259 rfl (by rw [e_v15]; rfl) (Nat.le_of_ble_eq_true rfl) rfl ?_
          refine nd_goto (tgt := 207) dX6_goOn_262 (by decide) ?_
          exact nd_loc [1, 2, 3, 4, 5, 0] rfl (ih _ _ _ _ _ _ k_this _ hf)
set_option maxHeartbeats 4000000 in
theorem tX6_goOn_197 (l : Launch) (w : Wd) (hfl : l.stackTraces = false) (F d : Nat) (r : Hp) (this : Nat) (x1 : Int32) (x2 : Int32) (x4 : Int32) (s0 : Int32) (k_this : nd_Kd this = 5) (h : Hp) (hf : fX6_goOn_197 F d this x1 x2 x4 s0 h = some r) : nd_V l w yX6_goOn cX6_goOn 7 none 6 143 (.inl none, r) h 197 [(0, vr (some this)), (1, vi x1), (2, vi x2), (4, vi x4)] [vi s0] := by
  unfold fX6_goOn_197 at hf
  refine nd_istore [(5, vi s0), (0, vr (some this)), (1, vi x1), (2, vi x2), (4, vi x4)] dX6_goOn_197 (Nat.le_of_ble_eq_true rfl) rfl ?_
  refine nd_aload_n (j := 1) dX6_goOn_199 rfl rfl ?_
  refine nd_getP (k := 52) dX6_goOn_200 k_this rfl (Nat.le_of_ble_eq_true rfl) (nd_flO q1392) rfl (fun ok1 => ?_)
  replace hf := nnE hf
  obtain ⟨a2, e_a2, hf⟩ := hf
  refine nd_topr e_a2.symm ?_
  have k_a2 : nd_Kd a2 = 20 := nd_c1 (ok1 a2 e_a2)
  refine nd_iload_n (j := 2) dX6_goOn_203 rfl rfl ?_
  replace hf := ckE hf
  obtain ⟨c3, hf⟩ := hf
  refine nd_iald dX6_goOn_204 k_a2 c3 ?_
  replace hf := bnE hf
  obtain ⟨v4, e_v4, hf⟩ := hf
  refine nd_top e_v4 ?_
  refine nd_istore [(6, vi v4), (5, vi s0), (0, vr (some this)), (1, vi x1), (2, vi x2), (4, vi x4)] dX6_goOn_205 (Nat.le_of_ble_eq_true rfl) rfl ?_
  exact nd_loc [2, 3, 4, 5, 1, 0] rfl (tX6_goOn_207 l w hfl F d r F _ _ _ _ _ _ k_this _ hf)
set_option maxHeartbeats 4000000 in
theorem tX6_goOn_196 (l : Launch) (w : Wd) (hfl : l.stackTraces = false) (F d : Nat) (r : Hp) (this : Nat) (x1 : Int32) (x2 : Int32) (x4 : Int32) (k_this : nd_Kd this = 5) (h : Hp) (hf : fX6_goOn_196 F d this x1 x2 x4 h = some r) : nd_V l w yX6_goOn cX6_goOn 7 none 6 143 (.inl none, r) h 196 [(0, vr (some this)), (1, vi x1), (2, vi x2), (4, vi x4)] [] := by
  unfold fX6_goOn_196 at hf
  refine nd_iconst (v := 0) dX6_goOn_196 (by decide) ?_
  exact nd_loc [0, 1, 2, 3] rfl (tX6_goOn_197 l w hfl F d r _ _ _ _ _ k_this _ hf)
set_option maxHeartbeats 4000000 in
theorem tX6_goOn_120 (l : Launch) (w : Wd) (hfl : l.stackTraces = false) (F d : Nat) (r : Hp) (this : Nat) (x1 : Int32) (x2 : Int32) (x3 : Int32) (x4 : Int32) (k_this : nd_Kd this = 5) (h : Hp) (hf : fX6_goOn_120 F d this x1 x2 x3 x4 h = some r) : nd_V l w yX6_goOn cX6_goOn 7 none 6 143 (.inl none, r) h 120 [(0, vr (some this)), (1, vi x1), (2, vi x2), (3, vi x3), (4, vi x4)] [] := by
  unfold fX6_goOn_120 at hf
  refine nd_aload_n (j := 0) dX6_goOn_120 rfl rfl ?_
  refine nd_getP (k := 11) dX6_goOn_121 k_this rfl (Nat.le_of_ble_eq_true rfl) (nd_flO q1351) rfl (fun ok1 => ?_)
  replace hf := nnE hf
  obtain ⟨a2, e_a2, hf⟩ := hf
  refine nd_topr e_a2.symm ?_
  have k_a2 : nd_Kd a2 = 20 := nd_c1 (ok1 a2 e_a2)
  refine nd_iload (j := 4) dX6_goOn_124 rfl ?_
  replace hf := ckE hf
  obtain ⟨c3, hf⟩ := hf
  refine nd_iald dX6_goOn_126 k_a2 c3 ?_
  refine nd_bipush (v := 7) dX6_goOn_127 (by decide) ?_
  refine nd_icmp_ne (tgt := 166) dX6_goOn_129 (by decide) (fun c4 => ?_) (fun c4 => ?_)
  · replace hf := ifn c4 hf
    refine nd_iload_n (j := 3) dX6_goOn_166 rfl rfl ?_
    refine nd_if_ne (tgt := 196) dX6_goOn_167 (by decide) (fun c5 => ?_) (fun c5 => ?_)
    · replace hf := ifn c5 hf
      exact nd_loc [0, 1, 2, 4] rfl (tX6_goOn_196 l w hfl F d r _ _ _ _ k_this _ hf)
    · replace hf := ifp c5 hf
      refine nd_aload_n (j := 0) dX6_goOn_170 rfl rfl ?_
      refine nd_getI (k := 47) dX6_goOn_171 k_this rfl (Nat.le_of_ble_eq_true rfl) (nd_flO q1387) rfl ?_
      refine nd_aload_n (j := 0) dX6_goOn_174 rfl rfl ?_
      replace hf := caE hf
      obtain ⟨v7, h6, e_h6, hf⟩ := hf
      refine nd_Vi [vi (gI h 647 this)] (tX6_bound l w hfl F d k_this e_h6) rfl dX6_goOn_175 mw_X6_bound (Or.inl q1643) k_this rfl q1645 qs52 (by omega) (by omega) (Nat.le_of_ble_eq_true rfl) ?_
      refine nd_icmp_ge (tgt := 196) dX6_goOn_178 (by decide) (fun c8 => ?_) (fun c8 => ?_)
      · replace hf := ifp c8 hf
        exact nd_loc [0, 1, 2, 4] rfl (tX6_goOn_196 l w hfl F d r _ _ _ _ k_this _ hf)
      · replace hf := ifn c8 hf
        refine nd_aload_n (j := 0) dX6_goOn_181 rfl rfl ?_
        refine nd_getP (k := 32) dX6_goOn_182 k_this rfl (Nat.le_of_ble_eq_true rfl) (nd_flO q1372) rfl (fun ok9 => ?_)
        replace hf := nnE hf
        obtain ⟨a10, e_a10, hf⟩ := hf
        refine nd_topr e_a10.symm ?_
        have k_a10 : nd_Kd a10 = 20 := nd_c1 (ok9 a10 e_a10)
        refine nd_aload_n (j := 0) dX6_goOn_185 rfl rfl ?_
        refine nd_getI (k := 47) dX6_goOn_186 k_this rfl (Nat.le_of_ble_eq_true rfl) (nd_flO q1387) rfl ?_
        replace hf := ckE hf
        obtain ⟨c11, hf⟩ := hf
        refine nd_iald dX6_goOn_189 k_a10 c11 ?_
        replace hf := caE hf
        obtain ⟨v13, h12, e_h12, hf⟩ := hf
        refine nd_Si [] (tX6_bitOf l w hfl F d e_h12) rfl dX6_goOn_190 mw_X6_bitOf (Or.inl q1659) q1660 (by omega) (by omega) (Nat.le_of_ble_eq_true rfl) ?_
        refine nd_goto (tgt := 197) dX6_goOn_193 (by decide) ?_
        exact nd_loc [0, 1, 2, 4] rfl (tX6_goOn_197 l w hfl F d r _ _ _ _ _ k_this _ hf)
  · replace hf := ifp c4 hf
    refine nd_aload_n (j := 0) dX6_goOn_132 rfl rfl ?_
    refine nd_getP (k := 37) dX6_goOn_133 k_this rfl (Nat.le_of_ble_eq_true rfl) (nd_flO q1377) rfl (fun ok14 => ?_)
    replace hf := nnE hf
    obtain ⟨a15, e_a15, hf⟩ := hf
    refine nd_topr e_a15.symm ?_
    have k_a15 : nd_Kd a15 = 20 := nd_c1 (ok14 a15 e_a15)
    refine nd_iload_n (j := 2) dX6_goOn_136 rfl rfl ?_
    refine nd_dup2 dX6_goOn_137 rfl rfl ?_
    replace hf := ckE hf
    obtain ⟨c16, hf⟩ := hf
    refine nd_iald dX6_goOn_138 k_a15 c16 ?_
    refine nd_iconst (v := 1) dX6_goOn_139 (by decide) ?_
    refine nd_iadd dX6_goOn_140 ?_
    replace hf := ckE hf
    obtain ⟨c17, hf⟩ := hf
    refine nd_iast dX6_goOn_141 k_a15 c17 ?_
    replace hf := bnE hf
    obtain ⟨h18, e_h18, hf⟩ := hf
    refine nd_hp e_h18 ?_
    refine nd_aload_n (j := 0) dX6_goOn_142 rfl rfl ?_
    refine nd_aload_n (j := 0) dX6_goOn_143 rfl rfl ?_
    refine nd_getP (k := 20) dX6_goOn_144 k_this rfl (Nat.le_of_ble_eq_true rfl) (nd_flO q1360) rfl (fun ok19 => ?_)
    replace hf := nnE hf
    obtain ⟨a20, e_a20, hf⟩ := hf
    refine nd_topr e_a20.symm ?_
    have k_a20 : nd_Kd a20 = 20 := nd_c1 (ok19 a20 e_a20)
    refine nd_bipush (v := 6) dX6_goOn_147 (by decide) ?_
    refine nd_iload (j := 4) dX6_goOn_149 rfl ?_
    refine nd_imul dX6_goOn_151 ?_
    replace hf := ckE hf
    obtain ⟨c21, hf⟩ := hf
    refine nd_iald dX6_goOn_152 k_a20 c21 ?_
    refine nd_iload_n (j := 2) dX6_goOn_153 rfl rfl ?_
    refine nd_aload_n (j := 0) dX6_goOn_154 rfl rfl ?_
    refine nd_getP (k := 37) dX6_goOn_155 k_this rfl (Nat.le_of_ble_eq_true rfl) (nd_flO q1377) rfl (fun ok22 => ?_)
    replace hf := nnE hf
    obtain ⟨a23, e_a23, hf⟩ := hf
    refine nd_topr e_a23.symm ?_
    have k_a23 : nd_Kd a23 = 20 := nd_c1 (ok22 a23 e_a23)
    refine nd_iload_n (j := 2) dX6_goOn_158 rfl rfl ?_
    replace hf := ckE hf
    obtain ⟨c24, hf⟩ := hf
    refine nd_iald dX6_goOn_159 k_a23 c24 ?_
    refine nd_iconst (v := 1) dX6_goOn_160 (by decide) ?_
    refine nd_isub dX6_goOn_161 ?_
    replace hf := cvE hf
    obtain ⟨h25, e_h25, hf⟩ := hf
    refine nd_Vv [] (tX6_element l w hfl F d k_this e_h25) rfl dX6_goOn_162 mw_X6_element (Or.inl q1635) k_this rfl q1637 qs50 (by omega) (by omega) (Nat.le_of_ble_eq_true rfl) ?_
    cases hf
    exact nd_vret dX6_goOn_165
set_option maxHeartbeats 4000000 in
theorem tX6_goOn_44 (l : Launch) (w : Wd) (hfl : l.stackTraces = false) (F d : Nat) (r : Hp) (this : Nat) (x1 : Int32) (x2 : Int32) (x3 : Int32) (s0 : Int32) (k_this : nd_Kd this = 5) (h : Hp) (hf : fX6_goOn_44 F d this x1 x2 x3 s0 h = some r) : nd_V l w yX6_goOn cX6_goOn 7 none 6 143 (.inl none, r) h 44 [(0, vr (some this)), (1, vi x1), (2, vi x2), (3, vi x3)] [vi s0] := by
  unfold fX6_goOn_44 at hf
  refine nd_istore [(4, vi s0), (0, vr (some this)), (1, vi x1), (2, vi x2), (3, vi x3)] dX6_goOn_44 (Nat.le_of_ble_eq_true rfl) rfl ?_
  refine nd_iload_n (j := 3) dX6_goOn_46 rfl rfl ?_
  refine nd_if_lt (tgt := 66) dX6_goOn_47 (by decide) (fun c1 => ?_) (fun c1 => ?_)
  · replace hf := ifp c1 hf
    exact nd_loc [1, 3, 0] rfl (tX6_goOn_66 l w hfl F d r _ _ _ k_this _ hf)
  · replace hf := ifn c1 hf
    refine nd_aload_n (j := 1) dX6_goOn_50 rfl rfl ?_
    refine nd_getP (k := 11) dX6_goOn_51 k_this rfl (Nat.le_of_ble_eq_true rfl) (nd_flO q1351) rfl (fun ok2 => ?_)
    replace hf := nnE hf
    obtain ⟨a3, e_a3, hf⟩ := hf
    refine nd_topr e_a3.symm ?_
    have k_a3 : nd_Kd a3 = 20 := nd_c1 (ok2 a3 e_a3)
    refine nd_iload (j := 0) dX6_goOn_54 rfl ?_
    replace hf := ckE hf
    obtain ⟨c4, hf⟩ := hf
    refine nd_iald dX6_goOn_56 k_a3 c4 ?_
    refine nd_bipush (v := 7) dX6_goOn_57 (by decide) ?_
    refine nd_icmp_ne (tgt := 120) dX6_goOn_59 (by decide) (fun c5 => ?_) (fun c5 => ?_)
    · replace hf := ifn c5 hf
      exact nd_loc [1, 2, 3, 4, 0] rfl (tX6_goOn_120 l w hfl F d r _ _ _ _ _ k_this _ hf)
    · replace hf := ifp c5 hf
      refine nd_iload_n (j := 4) dX6_goOn_62 rfl rfl ?_
      refine nd_if_eq (tgt := 120) dX6_goOn_63 (by decide) (fun c6 => ?_) (fun c6 => ?_)
      · replace hf := ifp c6 hf
        exact nd_loc [1, 2, 3, 4, 0] rfl (tX6_goOn_120 l w hfl F d r _ _ _ _ _ k_this _ hf)
      · replace hf := ifn c6 hf
        exact nd_loc [1, 3, 0] rfl (tX6_goOn_66 l w hfl F d r _ _ _ k_this _ hf)
set_option maxHeartbeats 4000000 in
theorem tX6_goOn_30 (l : Launch) (w : Wd) (hfl : l.stackTraces = false) (F d : Nat) (r : Hp) (this : Nat) (x1 : Int32) (x2 : Int32) (s0 : Int32) (k_this : nd_Kd this = 5) (h : Hp) (hf : fX6_goOn_30 F d this x1 x2 s0 h = some r) : nd_V l w yX6_goOn cX6_goOn 7 none 6 143 (.inl none, r) h 30 [(0, vr (some this)), (1, vi x1), (2, vi x2)] [vi s0] := by
  unfold fX6_goOn_30 at hf
  refine nd_istore_n [(3, vi s0), (0, vr (some this)), (1, vi x1), (2, vi x2)] dX6_goOn_30 rfl (Nat.le_of_ble_eq_true rfl) rfl ?_
  refine nd_iload_n (j := 3) dX6_goOn_31 rfl rfl ?_
  refine nd_if_ge (tgt := 39) dX6_goOn_32 (by decide) (fun c1 => ?_) (fun c1 => ?_)
  · replace hf := ifp c1 hf
    refine nd_aload_n (j := 1) dX6_goOn_39 rfl rfl ?_
    refine nd_iload_n (j := 3) dX6_goOn_40 rfl rfl ?_
    replace hf := caE hf
    obtain ⟨v3, h2, e_h2, hf⟩ := hf
    refine nd_Vi [] (tX6_baseOf l w hfl F d k_this e_h2) rfl dX6_goOn_41 mw_X6_baseOf (Or.inl q1714) k_this rfl q1716 qs67 (by omega) (by omega) (Nat.le_of_ble_eq_true rfl) ?_
    exact nd_loc [1, 2, 3, 0] rfl (tX6_goOn_44 l w hfl F d r _ _ _ _ _ k_this _ hf)
  · replace hf := ifn c1 hf
    refine nd_iconst (v := (-1)) dX6_goOn_35 (by decide) ?_
    refine nd_goto (tgt := 44) dX6_goOn_36 (by decide) ?_
    exact nd_loc [1, 2, 3, 0] rfl (tX6_goOn_44 l w hfl F d r _ _ _ _ _ k_this _ hf)
set_option maxHeartbeats 4000000 in
theorem tX6_goOn_25 (l : Launch) (w : Wd) (hfl : l.stackTraces = false) (F d : Nat) (r : Hp) (this : Nat) (x1 : Int32) (x2 : Int32) (k_this : nd_Kd this = 5) (h : Hp) (hf : fX6_goOn_25 F d this x1 x2 h = some r) : nd_V l w yX6_goOn cX6_goOn 7 none 6 143 (.inl none, r) h 25 [(0, vr (some this)), (1, vi x1), (2, vi x2)] [] := by
  unfold fX6_goOn_25 at hf
  refine nd_iconst (v := 1) dX6_goOn_25 (by decide) ?_
  refine nd_goto (tgt := 30) dX6_goOn_26 (by decide) ?_
  exact nd_loc [0, 1, 2] rfl (tX6_goOn_30 l w hfl F d r _ _ _ _ k_this _ hf)
set_option maxHeartbeats 4000000 in
theorem tX6_goOn (l : Launch) (w : Wd) (hfl : l.stackTraces = false) (F d : Nat) {this : Nat} (k_this : nd_Kd this = 5) {h : Hp} {r : Hp} (hf : fX6_goOn F d this h = some r) : nd_C l w yX6_goOn cX6_goOn 7 none 6 143 [vr (some this)] h (.inl none, r) := by
  refine nd_start (as := [vr (some this)]) hfl (by decide) (Nat.le_of_ble_eq_true rfl) ?_
  unfold fX6_goOn at hf
  refine nd_eqL (L' := [(0, vr (some this))]) rfl ?_
  refine nd_aload_n (j := 0) dX6_goOn_0 rfl rfl ?_
  refine nd_getI (k := 48) dX6_goOn_1 k_this rfl (Nat.le_of_ble_eq_true rfl) (nd_flO q1388) rfl ?_
  refine nd_iconst (v := 1) dX6_goOn_4 (by decide) ?_
  refine nd_isub dX6_goOn_5 ?_
  replace hf := bnE hf
  obtain ⟨v1, e_v1, hf⟩ := hf
  refine nd_top e_v1 ?_
  refine nd_istore_n [(1, vi v1), (0, vr (some this))] dX6_goOn_6 rfl (Nat.le_of_ble_eq_true rfl) rfl ?_
  refine nd_aload_n (j := 1) dX6_goOn_7 rfl rfl ?_
  refine nd_getP (k := 50) dX6_goOn_8 k_this rfl (Nat.le_of_ble_eq_true rfl) (nd_flO q1390) rfl (fun ok2 => ?_)
  replace hf := nnE hf
  obtain ⟨a3, e_a3, hf⟩ := hf
  refine nd_topr e_a3.symm ?_
  have k_a3 : nd_Kd a3 = 20 := nd_c1 (ok2 a3 e_a3)
  refine nd_iload_n (j := 0) dX6_goOn_11 rfl rfl ?_
  replace hf := ckE hf
  obtain ⟨c4, hf⟩ := hf
  refine nd_iald dX6_goOn_12 k_a3 c4 ?_
  replace hf := bnE hf
  obtain ⟨v5, e_v5, hf⟩ := hf
  refine nd_top e_v5 ?_
  refine nd_istore_n [(2, vi v5), (1, vi v1), (0, vr (some this))] dX6_goOn_13 rfl (Nat.le_of_ble_eq_true rfl) rfl ?_
  refine nd_iload_n (j := 0) dX6_goOn_14 rfl rfl ?_
  refine nd_if_lt (tgt := 25) dX6_goOn_15 (by decide) (fun c6 => ?_) (fun c6 => ?_)
  · replace hf := ifp c6 hf
    exact nd_loc [2, 1, 0] rfl (tX6_goOn_25 l w hfl F d r _ _ _ k_this _ hf)
  · replace hf := ifn c6 hf
    refine nd_aload_n (j := 2) dX6_goOn_18 rfl rfl ?_
    replace hf := caE hf
    obtain ⟨v8, h7, e_h7, hf⟩ := hf
    refine nd_Vi [] (tX6_isEnd l w hfl F d k_this e_h7) rfl dX6_goOn_19 mw_X6_isEnd (Or.inl q1710) k_this rfl q1712 qs66 (by omega) (by omega) (Nat.le_of_ble_eq_true rfl) ?_
    refine nd_if_eq (tgt := 29) dX6_goOn_22 (by decide) (fun c9 => ?_) (fun c9 => ?_)
    · replace hf := ifp c9 hf
      refine nd_iconst (v := 0) dX6_goOn_29 (by decide) ?_
      exact nd_loc [2, 1, 0] rfl (tX6_goOn_30 l w hfl F d r _ _ _ _ k_this _ hf)
    · replace hf := ifn c9 hf
      exact nd_loc [2, 1, 0] rfl (tX6_goOn_25 l w hfl F d r _ _ _ k_this _ hf)
def fX6_goOnPacked_66 (F d : Nat) (this : Nat) (x1 : Int32) (x2 : Int32) (x3 : Int32) (x4 : Int32) (s0 : Int32) (s1 : Int32) (h : Hp) : Option (Hp) :=
  if s0 = s1 then
  (bn (sI h 648 this ((gI h 648 this) - 1)) fun h30 => (
  some h30))
  else
  (nn (gP h 611 this) fun a3 => (
  ck (inb x3 (nd_Ln a3)) (
  if (gA h a3 (Int32.toNatClampNeg x3)) = 6 then
  (nn (gP h 653 this) fun a7 => (
  ck (inb x1 (nd_Ln a7)) (
  nn (gP h 615 this) fun a10 => (
  ck (inb x3 (nd_Ln a10)) (
  if (((gA h a7 (Int32.toNatClampNeg x1)) >>> ((((gA h a10 (Int32.toNatClampNeg x3)) - 1) - x4) &&& 31)) &&& 1) = 0 then
  (cv (fX6_absent F d this x2 x3 x4 h) fun h23 => (
  some h23))
  else
  (nn (gP h 637 this) fun a14 => (
  ck (inb x2 (nd_Ln a14)) (
  ck (inb x2 (nd_Ln a14)) (
  bn (sA h a14 (Int32.toNatClampNeg x2) ((gA h a14 (Int32.toNatClampNeg x2)) + 1)) fun h17 => (
  nn (gP h17 620 this) fun a19 => (
  ck (inb ((6 * x3) + x4) (nd_Ln a19)) (
  cv (fX6_want F d this (gA h17 a19 (Int32.toNatClampNeg ((6 * x3) + x4))) x2 x4 h17) fun h21 => (
  some h21)))))))))))))
  else
  (nn (gP h 620 this) fun a26 => (
  ck (inb (6 * x3) (nd_Ln a26)) (
  cv (fX6_want F d this (gA h a26 (Int32.toNatClampNeg (6 * x3))) x2 x4 h) fun h28 => (
  some h28)))))))
def fX6_goOnPacked (F d : Nat) (this : Nat) (h : Hp) : Option (Hp) :=
  bn ((gI h 648 this) - 1) fun v1 => (
  nn (gP h 650 this) fun a3 => (
  ck (inb v1 (nd_Ln a3)) (
  bn (gA h a3 (Int32.toNatClampNeg v1)) fun v5 => (
  ca (fX6_baseOf F d this v5 h) fun v7 h6 => (
  nn (gP h6 652 this) fun a9 => (
  ck (inb v1 (nd_Ln a9)) (
  bn (gA h6 a9 (Int32.toNatClampNeg v1)) fun v11 => (
  nn (gP h6 652 this) fun a13 => (
  ck (inb v1 (nd_Ln a13)) (
  ck (inb v1 (nd_Ln a13)) (
  bn (sA h6 a13 (Int32.toNatClampNeg v1) ((gA h6 a13 (Int32.toNatClampNeg v1)) + 1)) fun h16 => (
  nn (gP h16 611 this) fun a18 => (
  ck (inb v7 (nd_Ln a18)) (
  if (gA h16 a18 (Int32.toNatClampNeg v7)) = 6 then
  (nn (gP h16 615 this) fun a25 => (
  ck (inb v7 (nd_Ln a25)) (
  fX6_goOnPacked_66 F d this v1 v5 v7 v11 v11 (gA h16 a25 (Int32.toNatClampNeg v7)) h16)))
  else
  (nn (gP h16 637 this) fun a22 => (
  ck (inb v5 (nd_Ln a22)) (
  fX6_goOnPacked_66 F d this v1 v5 v7 v11 v11 (gA h16 a22 (Int32.toNatClampNeg v5)) h16)))))))))))))))))
theorem mw_X6_goOnPacked : nd_MW yX6_goOnPacked cX6_goOnPacked 5 none 0 := ⟨q1729, q91, by decide, by decide, by decide +kernel⟩
set_option maxHeartbeats 4000000 in
theorem tX6_goOnPacked_66 (l : Launch) (w : Wd) (hfl : l.stackTraces = false) (F d : Nat) (r : Hp) (this : Nat) (x1 : Int32) (x2 : Int32) (x3 : Int32) (x4 : Int32) (s0 : Int32) (s1 : Int32) (k_this : nd_Kd this = 5) (h : Hp) (hf : fX6_goOnPacked_66 F d this x1 x2 x3 x4 s0 s1 h = some r) : nd_V l w yX6_goOnPacked cX6_goOnPacked 5 none 5 118 (.inl none, r) h 66 [(0, vr (some this)), (1, vi x1), (2, vi x2), (3, vi x3), (4, vi x4)] [vi s1, vi s0] := by
  unfold fX6_goOnPacked_66 at hf
  refine nd_icmp_ne (tgt := 82) dX6_goOnPacked_66 (by decide) (fun c1 => ?_) (fun c1 => ?_)
  · replace hf := ifn c1 hf
    refine nd_aload_n (j := 0) dX6_goOnPacked_82 rfl rfl ?_
    refine nd_getP (k := 11) dX6_goOnPacked_83 k_this rfl (Nat.le_of_ble_eq_true rfl) (nd_flO q1351) rfl (fun ok2 => ?_)
    replace hf := nnE hf
    obtain ⟨a3, e_a3, hf⟩ := hf
    refine nd_topr e_a3.symm ?_
    have k_a3 : nd_Kd a3 = 20 := nd_c1 (ok2 a3 e_a3)
    refine nd_iload_n (j := 3) dX6_goOnPacked_86 rfl rfl ?_
    replace hf := ckE hf
    obtain ⟨c4, hf⟩ := hf
    refine nd_iald dX6_goOnPacked_87 k_a3 c4 ?_
    refine nd_bipush (v := 6) dX6_goOnPacked_88 (by decide) ?_
    refine nd_icmp_eq (tgt := 112) dX6_goOnPacked_90 (by decide) (fun c5 => ?_) (fun c5 => ?_)
    · replace hf := ifp c5 hf
      refine nd_aload_n (j := 0) dX6_goOnPacked_112 rfl rfl ?_
      refine nd_getP (k := 53) dX6_goOnPacked_113 k_this rfl (Nat.le_of_ble_eq_true rfl) (nd_flO q1393) rfl (fun ok6 => ?_)
      replace hf := nnE hf
      obtain ⟨a7, e_a7, hf⟩ := hf
      refine nd_topr e_a7.symm ?_
      have k_a7 : nd_Kd a7 = 20 := nd_c1 (ok6 a7 e_a7)
      refine nd_iload_n (j := 1) dX6_goOnPacked_116 rfl rfl ?_
      replace hf := ckE hf
      obtain ⟨c8, hf⟩ := hf
      refine nd_iald dX6_goOnPacked_117 k_a7 c8 ?_
      refine nd_aload_n (j := 0) dX6_goOnPacked_118 rfl rfl ?_
      refine nd_getP (k := 15) dX6_goOnPacked_119 k_this rfl (Nat.le_of_ble_eq_true rfl) (nd_flO q1355) rfl (fun ok9 => ?_)
      replace hf := nnE hf
      obtain ⟨a10, e_a10, hf⟩ := hf
      refine nd_topr e_a10.symm ?_
      have k_a10 : nd_Kd a10 = 20 := nd_c1 (ok9 a10 e_a10)
      refine nd_iload_n (j := 3) dX6_goOnPacked_122 rfl rfl ?_
      replace hf := ckE hf
      obtain ⟨c11, hf⟩ := hf
      refine nd_iald dX6_goOnPacked_123 k_a10 c11 ?_
      refine nd_iconst (v := 1) dX6_goOnPacked_124 (by decide) ?_
      refine nd_isub dX6_goOnPacked_125 ?_
      refine nd_iload (j := 4) dX6_goOnPacked_126 rfl ?_
      refine nd_isub dX6_goOnPacked_128 ?_
      refine nd_ishr dX6_goOnPacked_129 ?_
      refine nd_iconst (v := 1) dX6_goOnPacked_130 (by decide) ?_
      refine nd_iand dX6_goOnPacked_131 ?_
      refine nd_if_ne (tgt := 146) dX6_goOnPacked_132 (by decide) (fun c12 => ?_) (fun c12 => ?_)
      · replace hf := ifn c12 hf
        refine nd_aload_n (j := 0) dX6_goOnPacked_146 rfl rfl ?_
        refine nd_getP (k := 37) dX6_goOnPacked_147 k_this rfl (Nat.le_of_ble_eq_true rfl) (nd_flO q1377) rfl (fun ok13 => ?_)
        replace hf := nnE hf
        obtain ⟨a14, e_a14, hf⟩ := hf
        refine nd_topr e_a14.symm ?_
        have k_a14 : nd_Kd a14 = 20 := nd_c1 (ok13 a14 e_a14)
        refine nd_iload_n (j := 2) dX6_goOnPacked_150 rfl rfl ?_
        refine nd_dup2 dX6_goOnPacked_151 rfl rfl ?_
        replace hf := ckE hf
        obtain ⟨c15, hf⟩ := hf
        refine nd_iald dX6_goOnPacked_152 k_a14 c15 ?_
        refine nd_iconst (v := 1) dX6_goOnPacked_153 (by decide) ?_
        refine nd_iadd dX6_goOnPacked_154 ?_
        replace hf := ckE hf
        obtain ⟨c16, hf⟩ := hf
        refine nd_iast dX6_goOnPacked_155 k_a14 c16 ?_
        replace hf := bnE hf
        obtain ⟨h17, e_h17, hf⟩ := hf
        refine nd_hp e_h17 ?_
        refine nd_aload_n (j := 0) dX6_goOnPacked_156 rfl rfl ?_
        refine nd_aload_n (j := 0) dX6_goOnPacked_157 rfl rfl ?_
        refine nd_getP (k := 20) dX6_goOnPacked_158 k_this rfl (Nat.le_of_ble_eq_true rfl) (nd_flO q1360) rfl (fun ok18 => ?_)
        replace hf := nnE hf
        obtain ⟨a19, e_a19, hf⟩ := hf
        refine nd_topr e_a19.symm ?_
        have k_a19 : nd_Kd a19 = 20 := nd_c1 (ok18 a19 e_a19)
        refine nd_bipush (v := 6) dX6_goOnPacked_161 (by decide) ?_
        refine nd_iload_n (j := 3) dX6_goOnPacked_163 rfl rfl ?_
        refine nd_imul dX6_goOnPacked_164 ?_
        refine nd_iload (j := 4) dX6_goOnPacked_165 rfl ?_
        refine nd_iadd dX6_goOnPacked_167 ?_
        replace hf := ckE hf
        obtain ⟨c20, hf⟩ := hf
        refine nd_iald dX6_goOnPacked_168 k_a19 c20 ?_
        refine nd_iload_n (j := 2) dX6_goOnPacked_169 rfl rfl ?_
        refine nd_iload (j := 4) dX6_goOnPacked_170 rfl ?_
        replace hf := cvE hf
        obtain ⟨h21, e_h21, hf⟩ := hf
        refine nd_Vv [] (tX6_want l w hfl F d k_this e_h21) rfl dX6_goOnPacked_172 mw_X6_want (Or.inl q1675) k_this rfl q1677 qs58 (by omega) (by omega) (Nat.le_of_ble_eq_true rfl) ?_
        cases hf
        exact nd_vret dX6_goOnPacked_175
      · replace hf := ifp c12 hf
        refine nd_aload_n (j := 0) dX6_goOnPacked_135 rfl rfl ?_
        refine nd_iload_n (j := 2) dX6_goOnPacked_136 rfl rfl ?_
        refine nd_iload_n (j := 3) dX6_goOnPacked_137 rfl rfl ?_
        refine nd_iload (j := 4) dX6_goOnPacked_138 rfl ?_
        replace hf := cvE hf
        obtain ⟨h23, e_h23, hf⟩ := hf
        refine nd_Vv [] (tX6_absent l w hfl F d k_this e_h23) rfl dX6_goOnPacked_140 mw_X6_absent (Or.inl q1722) k_this rfl q1724 qs69 (by omega) (by omega) (Nat.le_of_ble_eq_true rfl) ?_
        refine nd_goto (tgt := 175) dX6_goOnPacked_143 (by decide) ?_
        cases hf
        exact nd_vret dX6_goOnPacked_175
    · replace hf := ifn c5 hf
      refine nd_aload_n (j := 0) dX6_goOnPacked_93 rfl rfl ?_
      refine nd_aload_n (j := 0) dX6_goOnPacked_94 rfl rfl ?_
      refine nd_getP (k := 20) dX6_goOnPacked_95 k_this rfl (Nat.le_of_ble_eq_true rfl) (nd_flO q1360) rfl (fun ok25 => ?_)
      replace hf := nnE hf
      obtain ⟨a26, e_a26, hf⟩ := hf
      refine nd_topr e_a26.symm ?_
      have k_a26 : nd_Kd a26 = 20 := nd_c1 (ok25 a26 e_a26)
      refine nd_bipush (v := 6) dX6_goOnPacked_98 (by decide) ?_
      refine nd_iload_n (j := 3) dX6_goOnPacked_100 rfl rfl ?_
      refine nd_imul dX6_goOnPacked_101 ?_
      replace hf := ckE hf
      obtain ⟨c27, hf⟩ := hf
      refine nd_iald dX6_goOnPacked_102 k_a26 c27 ?_
      refine nd_iload_n (j := 2) dX6_goOnPacked_103 rfl rfl ?_
      refine nd_iload (j := 4) dX6_goOnPacked_104 rfl ?_
      replace hf := cvE hf
      obtain ⟨h28, e_h28, hf⟩ := hf
      refine nd_Vv [] (tX6_want l w hfl F d k_this e_h28) rfl dX6_goOnPacked_106 mw_X6_want (Or.inl q1675) k_this rfl q1677 qs58 (by omega) (by omega) (Nat.le_of_ble_eq_true rfl) ?_
      refine nd_goto (tgt := 175) dX6_goOnPacked_109 (by decide) ?_
      cases hf
      exact nd_vret dX6_goOnPacked_175
  · replace hf := ifp c1 hf
    refine nd_aload_n (j := 0) dX6_goOnPacked_69 rfl rfl ?_
    refine nd_dup dX6_goOnPacked_70 rfl ?_
    refine nd_getI (k := 48) dX6_goOnPacked_71 k_this rfl (Nat.le_of_ble_eq_true rfl) (nd_flO q1388) rfl ?_
    refine nd_iconst (v := 1) dX6_goOnPacked_74 (by decide) ?_
    refine nd_isub dX6_goOnPacked_75 ?_
    refine nd_putN (k := 48) dX6_goOnPacked_76 k_this rfl (Nat.le_of_ble_eq_true rfl) (nd_flO q1388) rfl rfl rfl ?_
    replace hf := bnE hf
    obtain ⟨h30, e_h30, hf⟩ := hf
    refine nd_hp e_h30 ?_
    refine nd_goto (tgt := 175) dX6_goOnPacked_79 (by decide) ?_
    cases hf
    exact nd_vret dX6_goOnPacked_175
set_option maxHeartbeats 4000000 in
theorem tX6_goOnPacked (l : Launch) (w : Wd) (hfl : l.stackTraces = false) (F d : Nat) {this : Nat} (k_this : nd_Kd this = 5) {h : Hp} {r : Hp} (hf : fX6_goOnPacked F d this h = some r) : nd_C l w yX6_goOnPacked cX6_goOnPacked 5 none 5 118 [vr (some this)] h (.inl none, r) := by
  refine nd_start (as := [vr (some this)]) hfl (by decide) (Nat.le_of_ble_eq_true rfl) ?_
  unfold fX6_goOnPacked at hf
  refine nd_eqL (L' := [(0, vr (some this))]) rfl ?_
  refine nd_aload_n (j := 0) dX6_goOnPacked_0 rfl rfl ?_
  refine nd_getI (k := 48) dX6_goOnPacked_1 k_this rfl (Nat.le_of_ble_eq_true rfl) (nd_flO q1388) rfl ?_
  refine nd_iconst (v := 1) dX6_goOnPacked_4 (by decide) ?_
  refine nd_isub dX6_goOnPacked_5 ?_
  replace hf := bnE hf
  obtain ⟨v1, e_v1, hf⟩ := hf
  refine nd_top e_v1 ?_
  refine nd_istore_n [(1, vi v1), (0, vr (some this))] dX6_goOnPacked_6 rfl (Nat.le_of_ble_eq_true rfl) rfl ?_
  refine nd_aload_n (j := 1) dX6_goOnPacked_7 rfl rfl ?_
  refine nd_getP (k := 50) dX6_goOnPacked_8 k_this rfl (Nat.le_of_ble_eq_true rfl) (nd_flO q1390) rfl (fun ok2 => ?_)
  replace hf := nnE hf
  obtain ⟨a3, e_a3, hf⟩ := hf
  refine nd_topr e_a3.symm ?_
  have k_a3 : nd_Kd a3 = 20 := nd_c1 (ok2 a3 e_a3)
  refine nd_iload_n (j := 0) dX6_goOnPacked_11 rfl rfl ?_
  replace hf := ckE hf
  obtain ⟨c4, hf⟩ := hf
  refine nd_iald dX6_goOnPacked_12 k_a3 c4 ?_
  replace hf := bnE hf
  obtain ⟨v5, e_v5, hf⟩ := hf
  refine nd_top e_v5 ?_
  refine nd_istore_n [(2, vi v5), (1, vi v1), (0, vr (some this))] dX6_goOnPacked_13 rfl (Nat.le_of_ble_eq_true rfl) rfl ?_
  refine nd_aload_n (j := 2) dX6_goOnPacked_14 rfl rfl ?_
  refine nd_iload_n (j := 0) dX6_goOnPacked_15 rfl rfl ?_
  replace hf := caE hf
  obtain ⟨v7, h6, e_h6, hf⟩ := hf
  refine nd_Vi [] (tX6_baseOf l w hfl F d k_this e_h6) rfl dX6_goOnPacked_16 mw_X6_baseOf (Or.inl q1714) k_this rfl q1716 qs67 (by omega) (by omega) (Nat.le_of_ble_eq_true rfl) ?_
  refine nd_istore_n [(3, vi v7), (2, vi v5), (1, vi v1), (0, vr (some this))] dX6_goOnPacked_19 rfl (Nat.le_of_ble_eq_true rfl) rfl ?_
  refine nd_aload_n (j := 3) dX6_goOnPacked_20 rfl rfl ?_
  refine nd_getP (k := 52) dX6_goOnPacked_21 k_this rfl (Nat.le_of_ble_eq_true rfl) (nd_flO q1392) rfl (fun ok8 => ?_)
  replace hf := nnE hf
  obtain ⟨a9, e_a9, hf⟩ := hf
  refine nd_topr e_a9.symm ?_
  have k_a9 : nd_Kd a9 = 20 := nd_c1 (ok8 a9 e_a9)
  refine nd_iload_n (j := 2) dX6_goOnPacked_24 rfl rfl ?_
  replace hf := ckE hf
  obtain ⟨c10, hf⟩ := hf
  refine nd_iald dX6_goOnPacked_25 k_a9 c10 ?_
  replace hf := bnE hf
  obtain ⟨v11, e_v11, hf⟩ := hf
  refine nd_top e_v11 ?_
  refine nd_istore [(4, vi v11), (3, vi v7), (2, vi v5), (1, vi v1), (0, vr (some this))] dX6_goOnPacked_26 (Nat.le_of_ble_eq_true rfl) rfl ?_
  refine nd_aload_n (j := 4) dX6_goOnPacked_28 rfl rfl ?_
  refine nd_getP (k := 52) dX6_goOnPacked_29 k_this rfl (Nat.le_of_ble_eq_true rfl) (nd_flO q1392) rfl (fun ok12 => ?_)
  replace hf := nnE hf
  obtain ⟨a13, e_a13, hf⟩ := hf
  refine nd_topr e_a13.symm ?_
  have k_a13 : nd_Kd a13 = 20 := nd_c1 (ok12 a13 e_a13)
  refine nd_iload_n (j := 3) dX6_goOnPacked_32 rfl rfl ?_
  refine nd_dup2 dX6_goOnPacked_33 rfl rfl ?_
  replace hf := ckE hf
  obtain ⟨c14, hf⟩ := hf
  refine nd_iald dX6_goOnPacked_34 k_a13 c14 ?_
  refine nd_iconst (v := 1) dX6_goOnPacked_35 (by decide) ?_
  refine nd_iadd dX6_goOnPacked_36 ?_
  replace hf := ckE hf
  obtain ⟨c15, hf⟩ := hf
  refine nd_iast dX6_goOnPacked_37 k_a13 c15 ?_
  replace hf := bnE hf
  obtain ⟨h16, e_h16, hf⟩ := hf
  refine nd_hp e_h16 ?_
  refine nd_iload (j := 0) dX6_goOnPacked_38 rfl ?_
  refine nd_aload_n (j := 4) dX6_goOnPacked_40 rfl rfl ?_
  refine nd_getP (k := 11) dX6_goOnPacked_41 k_this rfl (Nat.le_of_ble_eq_true rfl) (nd_flO q1351) rfl (fun ok17 => ?_)
  replace hf := nnE hf
  obtain ⟨a18, e_a18, hf⟩ := hf
  refine nd_topr e_a18.symm ?_
  have k_a18 : nd_Kd a18 = 20 := nd_c1 (ok17 a18 e_a18)
  refine nd_iload_n (j := 1) dX6_goOnPacked_44 rfl rfl ?_
  replace hf := ckE hf
  obtain ⟨c19, hf⟩ := hf
  refine nd_iald dX6_goOnPacked_45 k_a18 c19 ?_
  refine nd_bipush (v := 6) dX6_goOnPacked_46 (by decide) ?_
  refine nd_icmp_ne (tgt := 60) dX6_goOnPacked_48 (by decide) (fun c20 => ?_) (fun c20 => ?_)
  · replace hf := ifn c20 hf
    refine nd_aload_n (j := 4) dX6_goOnPacked_60 rfl rfl ?_
    refine nd_getP (k := 37) dX6_goOnPacked_61 k_this rfl (Nat.le_of_ble_eq_true rfl) (nd_flO q1377) rfl (fun ok21 => ?_)
    replace hf := nnE hf
    obtain ⟨a22, e_a22, hf⟩ := hf
    refine nd_topr e_a22.symm ?_
    have k_a22 : nd_Kd a22 = 20 := nd_c1 (ok21 a22 e_a22)
    refine nd_iload_n (j := 2) dX6_goOnPacked_64 rfl rfl ?_
    replace hf := ckE hf
    obtain ⟨c23, hf⟩ := hf
    refine nd_iald dX6_goOnPacked_65 k_a22 c23 ?_
    exact nd_loc [4, 3, 2, 1, 0] rfl (tX6_goOnPacked_66 l w hfl F d r _ _ _ _ _ _ _ k_this _ hf)
  · replace hf := ifp c20 hf
    refine nd_aload_n (j := 4) dX6_goOnPacked_51 rfl rfl ?_
    refine nd_getP (k := 15) dX6_goOnPacked_52 k_this rfl (Nat.le_of_ble_eq_true rfl) (nd_flO q1355) rfl (fun ok24 => ?_)
    replace hf := nnE hf
    obtain ⟨a25, e_a25, hf⟩ := hf
    refine nd_topr e_a25.symm ?_
    have k_a25 : nd_Kd a25 = 20 := nd_c1 (ok24 a25 e_a25)
    refine nd_iload_n (j := 1) dX6_goOnPacked_55 rfl rfl ?_
    replace hf := ckE hf
    obtain ⟨c26, hf⟩ := hf
    refine nd_iald dX6_goOnPacked_56 k_a25 c26 ?_
    refine nd_goto (tgt := 66) dX6_goOnPacked_57 (by decide) ?_
    exact nd_loc [4, 3, 2, 1, 0] rfl (tX6_goOnPacked_66 l w hfl F d r _ _ _ _ _ _ _ k_this _ hf)
def fX6_settle_45 (F d : Nat) (k_7 : Nat → Int32 → Hp → Option (Hp)) (this : Nat) (x1 : Int32) (x2 : Int32) (h : Hp) : Option (Hp) :=
  nn (gP h 641 this) fun a2 => (
  ck (inb x1 (nd_Ln a2)) (
  bn (sA h a2 (Int32.toNatClampNeg x1) (x2 - x1)) fun h4 => (
  bn (x1 + (-1)) fun v5 => (
  k_7 this v5 h4))))
def fX6_settle_15 (F d : Nat) (k_7 : Nat → Int32 → Hp → Option (Hp)) : Nat → Nat → Int32 → Int32 → Hp → Option (Hp)
  | 0, _, _, _, _ => none
  | n + 1, this, x1, x2, h =>
    if (gI h 634 this) ≤ x2 then
    (fX6_settle_45 F d k_7 this x1 x2 h)
    else
    (nn (gP h 639 this) fun a3 => (
    ck (inb x2 (nd_Ln a3)) (
    if (gA h a3 (Int32.toNatClampNeg x2)) = x1 then
    (nn (gP h 641 this) fun a7 => (
    ck (inb x2 (nd_Ln a7)) (
    bn (x2 + (gA h a7 (Int32.toNatClampNeg x2))) fun v9 => (
    fX6_settle_15 F d k_7 n this x1 v9 h))))
    else
    (fX6_settle_45 F d k_7 this x1 x2 h))))
def fX6_settle_7 (F d : Nat) : Nat → Nat → Int32 → Hp → Option (Hp)
  | 0, _, _, _ => none
  | n + 1, this, x1, h =>
    if x1 < 0 then
    (some h)
    else
    (bn (x1 + 1) fun v2 => (
    fX6_settle_15 F d (fX6_settle_7 F d n) F this x1 v2 h))
def fX6_settle (F d : Nat) (this : Nat) (h : Hp) : Option (Hp) :=
  bn ((gI h 634 this) - 1) fun v1 => (
  fX6_settle_7 F d F this v1 h)
theorem mw_X6_settle : nd_MW yX6_settle cX6_settle 3 none 0 := ⟨q1733, q91, by decide, by decide, by decide +kernel⟩
set_option maxHeartbeats 4000000 in
theorem tX6_settle_45 (l : Launch) (w : Wd) (hfl : l.stackTraces = false) (F d : Nat) (r : Hp) (k_7 : Nat → Int32 → Hp → Option (Hp)) (hk_7 : ∀ (this : Nat) (x1 : Int32) (k_this : nd_Kd this = 5) (h : Hp), k_7 this x1 h = some r → nd_V l w yX6_settle cX6_settle 3 none 0 0 (.inl none, r) h 7 [(0, vr (some this)), (1, vi x1)] []) (this : Nat) (x1 : Int32) (x2 : Int32) (k_this : nd_Kd this = 5) (h : Hp) (hf : fX6_settle_45 F d k_7 this x1 x2 h = some r) : nd_V l w yX6_settle cX6_settle 3 none 0 0 (.inl none, r) h 45 [(0, vr (some this)), (1, vi x1), (2, vi x2)] [] := by
  unfold fX6_settle_45 at hf
  refine nd_aload_n (j := 0) dX6_settle_45 rfl rfl ?_
  refine nd_getP (k := 41) dX6_settle_46 k_this rfl (Nat.le_of_ble_eq_true rfl) (nd_flO q1381) rfl (fun ok1 => ?_)
  replace hf := nnE hf
  obtain ⟨a2, e_a2, hf⟩ := hf
  refine nd_topr e_a2.symm ?_
  have k_a2 : nd_Kd a2 = 20 := nd_c1 (ok1 a2 e_a2)
  refine nd_iload_n (j := 1) dX6_settle_49 rfl rfl ?_
  refine nd_iload_n (j := 2) dX6_settle_50 rfl rfl ?_
  refine nd_iload_n (j := 1) dX6_settle_51 rfl rfl ?_
  refine nd_isub dX6_settle_52 ?_
  replace hf := ckE hf
  obtain ⟨c3, hf⟩ := hf
  refine nd_iast dX6_settle_53 k_a2 c3 ?_
  replace hf := bnE hf
  obtain ⟨h4, e_h4, hf⟩ := hf
  refine nd_hp e_h4 ?_
  replace hf := bnE hf
  obtain ⟨v5, e_v5, hf⟩ := hf
  refine nd_iinc (v := v5) (j := 1) [(1, vi v5), (0, vr (some this)), (2, vi x2)] dX6_settle_54 rfl (by rw [e_v5]; rfl) (Nat.le_of_ble_eq_true rfl) rfl ?_
  refine nd_goto (tgt := 7) dX6_settle_57 (by decide) ?_
  exact nd_loc [1, 0] rfl (hk_7 _ _ k_this _ hf)
set_option maxHeartbeats 4000000 in
theorem tX6_settle_15 (l : Launch) (w : Wd) (hfl : l.stackTraces = false) (F d : Nat) (r : Hp) (k_7 : Nat → Int32 → Hp → Option (Hp)) (hk_7 : ∀ (this : Nat) (x1 : Int32) (k_this : nd_Kd this = 5) (h : Hp), k_7 this x1 h = some r → nd_V l w yX6_settle cX6_settle 3 none 0 0 (.inl none, r) h 7 [(0, vr (some this)), (1, vi x1)] []) : ∀ (n : Nat) (this : Nat) (x1 : Int32) (x2 : Int32) (k_this : nd_Kd this = 5) (h : Hp), fX6_settle_15 F d k_7 n this x1 x2 h = some r → nd_V l w yX6_settle cX6_settle 3 none 0 0 (.inl none, r) h 15 [(0, vr (some this)), (1, vi x1), (2, vi x2)] [] := by
  intro n
  induction n with
  | zero => intro _ _ _ _ _ hf; cases hf
  | succ n ih =>
    intro this x1 x2 k_this h hf
    unfold fX6_settle_15 at hf
    refine nd_iload_n (j := 2) dX6_settle_15 rfl rfl ?_
    refine nd_aload_n (j := 0) dX6_settle_16 rfl rfl ?_
    refine nd_getI (k := 34) dX6_settle_17 k_this rfl (Nat.le_of_ble_eq_true rfl) (nd_flO q1374) rfl ?_
    refine nd_icmp_ge (tgt := 45) dX6_settle_20 (by decide) (fun c1 => ?_) (fun c1 => ?_)
    · replace hf := ifp c1 hf
      exact nd_loc [0, 1, 2] rfl (tX6_settle_45 l w hfl F d r k_7 hk_7 _ _ _ k_this _ hf)
    · replace hf := ifn c1 hf
      refine nd_aload_n (j := 0) dX6_settle_23 rfl rfl ?_
      refine nd_getP (k := 39) dX6_settle_24 k_this rfl (Nat.le_of_ble_eq_true rfl) (nd_flO q1379) rfl (fun ok2 => ?_)
      replace hf := nnE hf
      obtain ⟨a3, e_a3, hf⟩ := hf
      refine nd_topr e_a3.symm ?_
      have k_a3 : nd_Kd a3 = 20 := nd_c1 (ok2 a3 e_a3)
      refine nd_iload_n (j := 2) dX6_settle_27 rfl rfl ?_
      replace hf := ckE hf
      obtain ⟨c4, hf⟩ := hf
      refine nd_iald dX6_settle_28 k_a3 c4 ?_
      refine nd_iload_n (j := 1) dX6_settle_29 rfl rfl ?_
      refine nd_icmp_ne (tgt := 45) dX6_settle_30 (by decide) (fun c5 => ?_) (fun c5 => ?_)
      · replace hf := ifn c5 hf
        exact nd_loc [0, 1, 2] rfl (tX6_settle_45 l w hfl F d r k_7 hk_7 _ _ _ k_this _ hf)
      · replace hf := ifp c5 hf
        refine nd_iload_n (j := 2) dX6_settle_33 rfl rfl ?_
        refine nd_aload_n (j := 0) dX6_settle_34 rfl rfl ?_
        refine nd_getP (k := 41) dX6_settle_35 k_this rfl (Nat.le_of_ble_eq_true rfl) (nd_flO q1381) rfl (fun ok6 => ?_)
        replace hf := nnE hf
        obtain ⟨a7, e_a7, hf⟩ := hf
        refine nd_topr e_a7.symm ?_
        have k_a7 : nd_Kd a7 = 20 := nd_c1 (ok6 a7 e_a7)
        refine nd_iload_n (j := 2) dX6_settle_38 rfl rfl ?_
        replace hf := ckE hf
        obtain ⟨c8, hf⟩ := hf
        refine nd_iald dX6_settle_39 k_a7 c8 ?_
        refine nd_iadd dX6_settle_40 ?_
        replace hf := bnE hf
        obtain ⟨v9, e_v9, hf⟩ := hf
        refine nd_top e_v9 ?_
        refine nd_istore_n [(2, vi v9), (0, vr (some this)), (1, vi x1)] dX6_settle_41 rfl (Nat.le_of_ble_eq_true rfl) rfl ?_
        refine nd_goto (tgt := 15) dX6_settle_42 (by decide) ?_
        exact nd_loc [1, 2, 0] rfl (ih _ _ _ k_this _ hf)
set_option maxHeartbeats 4000000 in
theorem tX6_settle_7 (l : Launch) (w : Wd) (hfl : l.stackTraces = false) (F d : Nat) (r : Hp) : ∀ (n : Nat) (this : Nat) (x1 : Int32) (k_this : nd_Kd this = 5) (h : Hp), fX6_settle_7 F d n this x1 h = some r → nd_V l w yX6_settle cX6_settle 3 none 0 0 (.inl none, r) h 7 [(0, vr (some this)), (1, vi x1)] [] := by
  intro n
  induction n with
  | zero => intro _ _ _ _ hf; cases hf
  | succ n ih =>
    intro this x1 k_this h hf
    unfold fX6_settle_7 at hf
    refine nd_iload_n (j := 1) dX6_settle_7 rfl rfl ?_
    refine nd_if_lt (tgt := 60) dX6_settle_8 (by decide) (fun c1 => ?_) (fun c1 => ?_)
    · replace hf := ifp c1 hf
      cases hf
      exact nd_vret dX6_settle_60
    · replace hf := ifn c1 hf
      refine nd_iload_n (j := 1) dX6_settle_11 rfl rfl ?_
      refine nd_iconst (v := 1) dX6_settle_12 (by decide) ?_
      refine nd_iadd dX6_settle_13 ?_
      replace hf := bnE hf
      obtain ⟨v2, e_v2, hf⟩ := hf
      refine nd_top e_v2 ?_
      refine nd_istore_n [(2, vi v2), (0, vr (some this)), (1, vi x1)] dX6_settle_14 rfl (Nat.le_of_ble_eq_true rfl) rfl ?_
      exact nd_loc [1, 2, 0] rfl (tX6_settle_15 l w hfl F d r (fX6_settle_7 F d n) ih F _ _ _ k_this _ hf)
set_option maxHeartbeats 4000000 in
theorem tX6_settle (l : Launch) (w : Wd) (hfl : l.stackTraces = false) (F d : Nat) {this : Nat} (k_this : nd_Kd this = 5) {h : Hp} {r : Hp} (hf : fX6_settle F d this h = some r) : nd_C l w yX6_settle cX6_settle 3 none 0 0 [vr (some this)] h (.inl none, r) := by
  refine nd_start (as := [vr (some this)]) hfl (by decide) (Nat.le_of_ble_eq_true rfl) ?_
  unfold fX6_settle at hf
  refine nd_eqL (L' := [(0, vr (some this))]) rfl ?_
  refine nd_aload_n (j := 0) dX6_settle_0 rfl rfl ?_
  refine nd_getI (k := 34) dX6_settle_1 k_this rfl (Nat.le_of_ble_eq_true rfl) (nd_flO q1374) rfl ?_
  refine nd_iconst (v := 1) dX6_settle_4 (by decide) ?_
  refine nd_isub dX6_settle_5 ?_
  replace hf := bnE hf
  obtain ⟨v1, e_v1, hf⟩ := hf
  refine nd_top e_v1 ?_
  refine nd_istore_n [(1, vi v1), (0, vr (some this))] dX6_settle_6 rfl (Nat.le_of_ble_eq_true rfl) rfl ?_
  exact nd_loc [1, 0] rfl (tX6_settle_7 l w hfl F d r F _ _ k_this _ hf)
def fX6_isLeft (F d : Nat) (this : Nat) (p0 : Int32) (h : Hp) : Option (Int32 × Hp) :=
  nn (gP h 639 this) fun a2 => (
  ck (inb p0 (nd_Ln a2)) (
  if 0 ≤ (gA h a2 (Int32.toNatClampNeg p0)) then
  (nn (gP h 639 this) fun a6 => (
  ck (inb p0 (nd_Ln a6)) (
  ca (fX6_baseOf F d this (gA h a6 (Int32.toNatClampNeg p0)) h) fun v9 h8 => (
  nn (gP h8 638 this) fun a11 => (
  ck (inb p0 (nd_Ln a11)) (
  bn ((6 * v9) + (gA h8 a11 (Int32.toNatClampNeg p0))) fun v13 => (
  nn (gP h8 611 this) fun a15 => (
  ck (inb v9 (nd_Ln a15)) (
  if (gA h8 a15 (Int32.toNatClampNeg v9)) = 6 then
  (nn (gP h8 621 this) fun a19 => (
  ck (inb v13 (nd_Ln a19)) (
  if (gA h8 a19 (Int32.toNatClampNeg v13)) = 2 then
  (nn (gP h8 622 this) fun a23 => (
  ck (inb v13 (nd_Ln a23)) (
  nn (gP h8 637 this) fun a26 => (
  ck (inb p0 (nd_Ln a26)) (
  if (gA h8 a23 (Int32.toNatClampNeg v13)) = (gA h8 a26 (Int32.toNatClampNeg p0)) then
  (some (1, h8))
  else
  (some (0, h8)))))))
  else
  (some (0, h8)))))
  else
  (some (0, h8)))))))))))
  else
  (some (0, h))))
theorem mw_X6_isLeft : nd_MW yX6_isLeft cX6_isLeft 4 (some .boolean) 1 := ⟨q1741, q91, by decide, by decide, by decide +kernel⟩
set_option maxHeartbeats 4000000 in
theorem tX6_isLeft (l : Launch) (w : Wd) (hfl : l.stackTraces = false) (F d : Nat) {this : Nat} {p0 : Int32} (k_this : nd_Kd this = 5) {h : Hp} {r : Int32 × Hp} (hf : fX6_isLeft F d this p0 h = some r) : nd_C l w yX6_isLeft cX6_isLeft 4 (some .boolean) 3 68 [vr (some this), vi p0] h (.inl (some (vi r.1)), r.2) := by
  refine nd_start (as := [vr (some this), vi p0]) hfl (by decide) (Nat.le_of_ble_eq_true rfl) ?_
  unfold fX6_isLeft at hf
  refine nd_eqL (L' := [(0, vr (some this)), (1, vi p0)]) rfl ?_
  refine nd_aload_n (j := 0) dX6_isLeft_0 rfl rfl ?_
  refine nd_getP (k := 39) dX6_isLeft_1 k_this rfl (Nat.le_of_ble_eq_true rfl) (nd_flO q1379) rfl (fun ok1 => ?_)
  replace hf := nnE hf
  obtain ⟨a2, e_a2, hf⟩ := hf
  refine nd_topr e_a2.symm ?_
  have k_a2 : nd_Kd a2 = 20 := nd_c1 (ok1 a2 e_a2)
  refine nd_iload_n (j := 1) dX6_isLeft_4 rfl rfl ?_
  replace hf := ckE hf
  obtain ⟨c3, hf⟩ := hf
  refine nd_iald dX6_isLeft_5 k_a2 c3 ?_
  refine nd_if_ge (tgt := 11) dX6_isLeft_6 (by decide) (fun c4 => ?_) (fun c4 => ?_)
  · replace hf := ifp c4 hf
    refine nd_aload_n (j := 0) dX6_isLeft_11 rfl rfl ?_
    refine nd_aload_n (j := 0) dX6_isLeft_12 rfl rfl ?_
    refine nd_getP (k := 39) dX6_isLeft_13 k_this rfl (Nat.le_of_ble_eq_true rfl) (nd_flO q1379) rfl (fun ok5 => ?_)
    replace hf := nnE hf
    obtain ⟨a6, e_a6, hf⟩ := hf
    refine nd_topr e_a6.symm ?_
    have k_a6 : nd_Kd a6 = 20 := nd_c1 (ok5 a6 e_a6)
    refine nd_iload_n (j := 1) dX6_isLeft_16 rfl rfl ?_
    replace hf := ckE hf
    obtain ⟨c7, hf⟩ := hf
    refine nd_iald dX6_isLeft_17 k_a6 c7 ?_
    replace hf := caE hf
    obtain ⟨v9, h8, e_h8, hf⟩ := hf
    refine nd_Vi [] (tX6_baseOf l w hfl F d k_this e_h8) rfl dX6_isLeft_18 mw_X6_baseOf (Or.inl q1714) k_this rfl q1716 qs67 (by omega) (by omega) (Nat.le_of_ble_eq_true rfl) ?_
    refine nd_istore_n [(2, vi v9), (0, vr (some this)), (1, vi p0)] dX6_isLeft_21 rfl (Nat.le_of_ble_eq_true rfl) rfl ?_
    refine nd_bipush (v := 6) dX6_isLeft_22 (by decide) ?_
    refine nd_iload_n (j := 0) dX6_isLeft_24 rfl rfl ?_
    refine nd_imul dX6_isLeft_25 ?_
    refine nd_aload_n (j := 1) dX6_isLeft_26 rfl rfl ?_
    refine nd_getP (k := 38) dX6_isLeft_27 k_this rfl (Nat.le_of_ble_eq_true rfl) (nd_flO q1378) rfl (fun ok10 => ?_)
    replace hf := nnE hf
    obtain ⟨a11, e_a11, hf⟩ := hf
    refine nd_topr e_a11.symm ?_
    have k_a11 : nd_Kd a11 = 20 := nd_c1 (ok10 a11 e_a11)
    refine nd_iload_n (j := 2) dX6_isLeft_30 rfl rfl ?_
    replace hf := ckE hf
    obtain ⟨c12, hf⟩ := hf
    refine nd_iald dX6_isLeft_31 k_a11 c12 ?_
    refine nd_iadd dX6_isLeft_32 ?_
    replace hf := bnE hf
    obtain ⟨v13, e_v13, hf⟩ := hf
    refine nd_top e_v13 ?_
    refine nd_istore_n [(3, vi v13), (2, vi v9), (0, vr (some this)), (1, vi p0)] dX6_isLeft_33 rfl (Nat.le_of_ble_eq_true rfl) rfl ?_
    refine nd_aload_n (j := 2) dX6_isLeft_34 rfl rfl ?_
    refine nd_getP (k := 11) dX6_isLeft_35 k_this rfl (Nat.le_of_ble_eq_true rfl) (nd_flO q1351) rfl (fun ok14 => ?_)
    replace hf := nnE hf
    obtain ⟨a15, e_a15, hf⟩ := hf
    refine nd_topr e_a15.symm ?_
    have k_a15 : nd_Kd a15 = 20 := nd_c1 (ok14 a15 e_a15)
    refine nd_iload_n (j := 1) dX6_isLeft_38 rfl rfl ?_
    replace hf := ckE hf
    obtain ⟨c16, hf⟩ := hf
    refine nd_iald dX6_isLeft_39 k_a15 c16 ?_
    refine nd_bipush (v := 6) dX6_isLeft_40 (by decide) ?_
    refine nd_icmp_ne (tgt := 74) dX6_isLeft_42 (by decide) (fun c17 => ?_) (fun c17 => ?_)
    · replace hf := ifn c17 hf
      refine nd_iconst (v := 0) dX6_isLeft_74 (by decide) ?_
      cases hf
      exact nd_zret (v := 0) (by decide) dX6_isLeft_75
    · replace hf := ifp c17 hf
      refine nd_aload_n (j := 2) dX6_isLeft_45 rfl rfl ?_
      refine nd_getP (k := 21) dX6_isLeft_46 k_this rfl (Nat.le_of_ble_eq_true rfl) (nd_flO q1361) rfl (fun ok18 => ?_)
      replace hf := nnE hf
      obtain ⟨a19, e_a19, hf⟩ := hf
      refine nd_topr e_a19.symm ?_
      have k_a19 : nd_Kd a19 = 20 := nd_c1 (ok18 a19 e_a19)
      refine nd_iload_n (j := 0) dX6_isLeft_49 rfl rfl ?_
      replace hf := ckE hf
      obtain ⟨c20, hf⟩ := hf
      refine nd_iald dX6_isLeft_50 k_a19 c20 ?_
      refine nd_iconst (v := 2) dX6_isLeft_51 (by decide) ?_
      refine nd_icmp_ne (tgt := 74) dX6_isLeft_52 (by decide) (fun c21 => ?_) (fun c21 => ?_)
      · replace hf := ifn c21 hf
        refine nd_iconst (v := 0) dX6_isLeft_74 (by decide) ?_
        cases hf
        exact nd_zret (v := 0) (by decide) dX6_isLeft_75
      · replace hf := ifp c21 hf
        refine nd_aload_n (j := 2) dX6_isLeft_55 rfl rfl ?_
        refine nd_getP (k := 22) dX6_isLeft_56 k_this rfl (Nat.le_of_ble_eq_true rfl) (nd_flO q1362) rfl (fun ok22 => ?_)
        replace hf := nnE hf
        obtain ⟨a23, e_a23, hf⟩ := hf
        refine nd_topr e_a23.symm ?_
        have k_a23 : nd_Kd a23 = 20 := nd_c1 (ok22 a23 e_a23)
        refine nd_iload_n (j := 0) dX6_isLeft_59 rfl rfl ?_
        replace hf := ckE hf
        obtain ⟨c24, hf⟩ := hf
        refine nd_iald dX6_isLeft_60 k_a23 c24 ?_
        refine nd_aload_n (j := 2) dX6_isLeft_61 rfl rfl ?_
        refine nd_getP (k := 37) dX6_isLeft_62 k_this rfl (Nat.le_of_ble_eq_true rfl) (nd_flO q1377) rfl (fun ok25 => ?_)
        replace hf := nnE hf
        obtain ⟨a26, e_a26, hf⟩ := hf
        refine nd_topr e_a26.symm ?_
        have k_a26 : nd_Kd a26 = 20 := nd_c1 (ok25 a26 e_a26)
        refine nd_iload_n (j := 3) dX6_isLeft_65 rfl rfl ?_
        replace hf := ckE hf
        obtain ⟨c27, hf⟩ := hf
        refine nd_iald dX6_isLeft_66 k_a26 c27 ?_
        refine nd_icmp_ne (tgt := 74) dX6_isLeft_67 (by decide) (fun c28 => ?_) (fun c28 => ?_)
        · replace hf := ifn c28 hf
          refine nd_iconst (v := 0) dX6_isLeft_74 (by decide) ?_
          cases hf
          exact nd_zret (v := 0) (by decide) dX6_isLeft_75
        · replace hf := ifp c28 hf
          refine nd_iconst (v := 1) dX6_isLeft_70 (by decide) ?_
          refine nd_goto (tgt := 75) dX6_isLeft_71 (by decide) ?_
          cases hf
          exact nd_zret (v := 1) (by decide) dX6_isLeft_75
  · replace hf := ifn c4 hf
    refine nd_iconst (v := 0) dX6_isLeft_9 (by decide) ?_
    cases hf
    exact nd_zret (v := 0) (by decide) dX6_isLeft_10
def fX6_make (F d : Nat) (this : Nat) (p0 : Int32) (h : Hp) : Option (Hp) :=
  bn (sI h 629 this ((gI h 629 this) - 1)) fun h1 => (
  nn (gP h1 633 this) fun a3 => (
  ck (inb (gI h1 629 this) (nd_Ln a3)) (
  bn (sA h1 a3 (Int32.toNatClampNeg (gI h1 629 this)) p0) fun h5 => (
  some h5))))
theorem mw_X6_make : nd_MW yX6_make cX6_make 2 none 1 := ⟨q1749, q91, by decide, by decide, by decide +kernel⟩
set_option maxHeartbeats 4000000 in
theorem tX6_make (l : Launch) (w : Wd) (hfl : l.stackTraces = false) (F d : Nat) {this : Nat} {p0 : Int32} (k_this : nd_Kd this = 5) {h : Hp} {r : Hp} (hf : fX6_make F d this p0 h = some r) : nd_C l w yX6_make cX6_make 2 none 0 0 [vr (some this), vi p0] h (.inl none, r) := by
  refine nd_start (as := [vr (some this), vi p0]) hfl (by decide) (Nat.le_of_ble_eq_true rfl) ?_
  unfold fX6_make at hf
  refine nd_eqL (L' := [(0, vr (some this)), (1, vi p0)]) rfl ?_
  refine nd_aload_n (j := 0) dX6_make_0 rfl rfl ?_
  refine nd_dup dX6_make_1 rfl ?_
  refine nd_getI (k := 29) dX6_make_2 k_this rfl (Nat.le_of_ble_eq_true rfl) (nd_flO q1369) rfl ?_
  refine nd_iconst (v := 1) dX6_make_5 (by decide) ?_
  refine nd_isub dX6_make_6 ?_
  refine nd_putN (k := 29) dX6_make_7 k_this rfl (Nat.le_of_ble_eq_true rfl) (nd_flO q1369) rfl rfl rfl ?_
  replace hf := bnE hf
  obtain ⟨h1, e_h1, hf⟩ := hf
  refine nd_hp e_h1 ?_
  refine nd_aload_n (j := 0) dX6_make_10 rfl rfl ?_
  refine nd_getP (k := 33) dX6_make_11 k_this rfl (Nat.le_of_ble_eq_true rfl) (nd_flO q1373) rfl (fun ok2 => ?_)
  replace hf := nnE hf
  obtain ⟨a3, e_a3, hf⟩ := hf
  refine nd_topr e_a3.symm ?_
  have k_a3 : nd_Kd a3 = 20 := nd_c1 (ok2 a3 e_a3)
  refine nd_aload_n (j := 0) dX6_make_14 rfl rfl ?_
  refine nd_getI (k := 29) dX6_make_15 k_this rfl (Nat.le_of_ble_eq_true rfl) (nd_flO q1369) rfl ?_
  refine nd_iload_n (j := 1) dX6_make_18 rfl rfl ?_
  replace hf := ckE hf
  obtain ⟨c4, hf⟩ := hf
  refine nd_iast dX6_make_19 k_a3 c4 ?_
  replace hf := bnE hf
  obtain ⟨h5, e_h5, hf⟩ := hf
  refine nd_hp e_h5 ?_
  cases hf
  exact nd_vret dX6_make_20
def fX6_encode_202 (F d : Nat) (k_118 : Nat → Int32 → Int32 → Hp → Option (Hp)) (this : Nat) (x1 : Int32) (x3 : Int32) (h : Hp) : Option (Hp) :=
  nn (gP h 625 this) fun a2 => (
  ck (inb x3 (nd_Ln a2)) (
  cv (fX6_make F d this (gA h a2 (Int32.toNatClampNeg x3)) h) fun h4 => (
  bn (x3 + 1) fun v6 => (
  k_118 this x1 v6 h4))))
def fX6_encode_187 (F d : Nat) (k_118 : Nat → Int32 → Int32 → Hp → Option (Hp)) (this : Nat) (x1 : Int32) (x3 : Int32) (x4 : Int32) (h : Hp) : Option (Hp) :=
  if x4 ≤ 255 then
  (fX6_encode_202 F d k_118 this x1 x3 h)
  else
  (cv (fX6_make F d this 130 h) fun h2 => (
  fX6_encode_202 F d k_118 this x1 x3 h2))
def fX6_encode_184 (F d : Nat) (k_118 : Nat → Int32 → Int32 → Hp → Option (Hp)) (this : Nat) (x1 : Int32) (x3 : Int32) (x4 : Int32) (s0 : Nat) (s1 : Int32) (h : Hp) : Option (Hp) :=
  cv (fX6_make F d s0 s1 h) fun h1 => (
  fX6_encode_187 F d k_118 this x1 x3 x4 h1)
def fX6_encode_118 (F d : Nat) : Nat → Nat → Int32 → Int32 → Hp → Option (Hp)
  | 0, _, _, _, _ => none
  | n + 1, this, x1, x3, h =>
    if (gI h 624 this) ≤ x3 then
    (some h)
    else
    (nn (gP h 642 this) fun a3 => (
    nn (gP h 641 this) fun a5 => (
    ck (inb x1 (nd_Ln a5)) (
    ck (inb (x1 + (gA h a5 (Int32.toNatClampNeg x1))) (nd_Ln a3)) (
    bn ((gA h a3 (Int32.toNatClampNeg (x1 + (gA h a5 (Int32.toNatClampNeg x1))))) - (gI h 629 this)) fun v8 => (
    cv (fX6_make F d this (v8 - v8 / 256 * 256) h) fun h9 => (
    if v8 ≤ 127 then
    (fX6_encode_187 F d (fX6_encode_118 F d n) this x1 x3 v8 h9)
    else
    (if v8 ≤ 255 then
    (fX6_encode_184 F d (fX6_encode_118 F d n) this x1 x3 v8 this 129 h9)
    else
    (fX6_encode_184 F d (fX6_encode_118 F d n) this x1 x3 v8 this (v8 / 256) h9)))))))))
def fX6_encode_116 (F d : Nat) (this : Nat) (x1 : Int32) (h : Hp) : Option (Hp) :=
  fX6_encode_118 F d F this x1 0 h
def fX6_encode_97 (F d : Nat) (this : Nat) (x1 : Int32) (x2 : Int32) (h : Hp) : Option (Hp) :=
  if x2 = 1 then
  (nn (gP h 637 this) fun a3 => (
  ck (inb x1 (nd_Ln a3)) (
  cv (fX6_make F d this (255 * (gA h a3 (Int32.toNatClampNeg x1))) h) fun h5 => (
  fX6_encode_116 F d this x1 h5))))
  else
  (fX6_encode_116 F d this x1 h)
def fX6_encode_54 (F d : Nat) : Nat → Nat → Int32 → Int32 → Int32 → Hp → Option (Hp)
  | 0, _, _, _, _, _ => none
  | n + 1, this, x1, x2, x3, h =>
    nn (gP h 637 this) fun a2 => (
    ck (inb x1 (nd_Ln a2)) (
    ca (fX6_bytesOf F d (gA h a2 (Int32.toNatClampNeg x1)) h) fun v5 h4 => (
    if v5 ≤ x3 then
    (fX6_encode_97 F d this x1 x2 h4)
    else
    (if x2 = 2 then
    (nn (gP h4 637 this) fun a9 => (
    ck (inb x1 (nd_Ln a9)) (
    cv (fX6_make F d this (((gA h4 a9 (Int32.toNatClampNeg x1)) >>> ((8 * x3) &&& 31)) &&& 255) h4) fun h11 => (
    bn (x3 + 1) fun v13 => (
    fX6_encode_54 F d n this x1 x2 v13 h11)))))
    else
    (fX6_encode_97 F d this x1 x2 h4)))))
def fX6_encode_52 (F d : Nat) (this : Nat) (x1 : Int32) (x2 : Int32) (h : Hp) : Option (Hp) :=
  fX6_encode_54 F d F this x1 x2 0 h
def fX6_encode_20 (F d : Nat) : Nat → Nat → Int32 → Int32 → Int32 → Hp → Option (Hp)
  | 0, _, _, _, _, _ => none
  | n + 1, this, x1, x2, x3, h =>
    if x3 < 0 then
    (fX6_encode_52 F d this x1 x2 h)
    else
    (if x2 = 4 then
    (nn (gP h 643 this) fun a4 => (
    nn (gP h 640 this) fun a6 => (
    ck (inb x1 (nd_Ln a6)) (
    ck (inb ((gA h a6 (Int32.toNatClampNeg x1)) + x3) (nd_Ln a4)) (
    cv (fX6_make F d this (gA h a4 (Int32.toNatClampNeg ((gA h a6 (Int32.toNatClampNeg x1)) + x3))) h) fun h9 => (
    bn (x3 + (-1)) fun v11 => (
    fX6_encode_20 F d n this x1 x2 v11 h9)))))))
    else
    (fX6_encode_52 F d this x1 x2 h))
def fX6_encode (F d : Nat) (this : Nat) (p0 : Int32) (h : Hp) : Option (Hp) :=
  nn (gP h 611 this) fun a2 => (
  ca (fX6_baseOf F d this p0 h) fun v4 h3 => (
  ck (inb v4 (nd_Ln a2)) (
  bn (gA h3 a2 (Int32.toNatClampNeg v4)) fun v6 => (
  nn (gP h3 637 this) fun a8 => (
  ck (inb p0 (nd_Ln a8)) (
  bn ((gA h3 a8 (Int32.toNatClampNeg p0)) - 1) fun v10 => (
  fX6_encode_20 F d F this p0 v6 v10 h3)))))))
theorem mw_X6_encode : nd_MW yX6_encode cX6_encode 5 none 1 := ⟨q1745, q91, by decide, by decide, by decide +kernel⟩
set_option maxHeartbeats 4000000 in
theorem tX6_encode_202 (l : Launch) (w : Wd) (hfl : l.stackTraces = false) (F d : Nat) (r : Hp) (k_118 : Nat → Int32 → Int32 → Hp → Option (Hp)) (hk_118 : ∀ (this : Nat) (x1 : Int32) (x3 : Int32) (k_this : nd_Kd this = 5) (h : Hp), k_118 this x1 x3 h = some r → nd_V l w yX6_encode cX6_encode 5 none 3 68 (.inl none, r) h 118 [(0, vr (some this)), (1, vi x1), (3, vi x3)] []) (this : Nat) (x1 : Int32) (x3 : Int32) (k_this : nd_Kd this = 5) (h : Hp) (hf : fX6_encode_202 F d k_118 this x1 x3 h = some r) : nd_V l w yX6_encode cX6_encode 5 none 3 68 (.inl none, r) h 202 [(0, vr (some this)), (1, vi x1), (3, vi x3)] [] := by
  unfold fX6_encode_202 at hf
  refine nd_aload_n (j := 0) dX6_encode_202 rfl rfl ?_
  refine nd_aload_n (j := 0) dX6_encode_203 rfl rfl ?_
  refine nd_getP (k := 25) dX6_encode_204 k_this rfl (Nat.le_of_ble_eq_true rfl) (nd_flO q1365) rfl (fun ok1 => ?_)
  replace hf := nnE hf
  obtain ⟨a2, e_a2, hf⟩ := hf
  refine nd_topr e_a2.symm ?_
  have k_a2 : nd_Kd a2 = 20 := nd_c1 (ok1 a2 e_a2)
  refine nd_iload_n (j := 2) dX6_encode_207 rfl rfl ?_
  replace hf := ckE hf
  obtain ⟨c3, hf⟩ := hf
  refine nd_iald dX6_encode_208 k_a2 c3 ?_
  replace hf := cvE hf
  obtain ⟨h4, e_h4, hf⟩ := hf
  refine nd_Vv [] (tX6_make l w hfl F d k_this e_h4) rfl dX6_encode_209 mw_X6_make (Or.inl q1746) k_this rfl q1748 qs75 (by omega) (by omega) (Nat.le_of_ble_eq_true rfl) ?_
  replace hf := bnE hf
  obtain ⟨v6, e_v6, hf⟩ := hf
  refine nd_iinc (v := v6) (j := 2) [(3, vi v6), (0, vr (some this)), (1, vi x1)] dX6_encode_212 rfl (by rw [e_v6]; rfl) (Nat.le_of_ble_eq_true rfl) rfl ?_
  refine nd_goto (tgt := 118) dX6_encode_215 (by decide) ?_
  exact nd_loc [1, 2, 0] rfl (hk_118 _ _ _ k_this _ hf)
set_option maxHeartbeats 4000000 in
theorem tX6_encode_187 (l : Launch) (w : Wd) (hfl : l.stackTraces = false) (F d : Nat) (r : Hp) (k_118 : Nat → Int32 → Int32 → Hp → Option (Hp)) (hk_118 : ∀ (this : Nat) (x1 : Int32) (x3 : Int32) (k_this : nd_Kd this = 5) (h : Hp), k_118 this x1 x3 h = some r → nd_V l w yX6_encode cX6_encode 5 none 3 68 (.inl none, r) h 118 [(0, vr (some this)), (1, vi x1), (3, vi x3)] []) (this : Nat) (x1 : Int32) (x3 : Int32) (x4 : Int32) (k_this : nd_Kd this = 5) (h : Hp) (hf : fX6_encode_187 F d k_118 this x1 x3 x4 h = some r) : nd_V l w yX6_encode cX6_encode 5 none 3 68 (.inl none, r) h 187 [(0, vr (some this)), (1, vi x1), (3, vi x3), (4, vi x4)] [] := by
  unfold fX6_encode_187 at hf
  refine nd_iload (j := 3) dX6_encode_187 rfl ?_
  refine nd_sipush (v := 255) dX6_encode_189 (by decide) ?_
  refine nd_icmp_le (tgt := 202) dX6_encode_192 (by decide) (fun c1 => ?_) (fun c1 => ?_)
  · replace hf := ifp c1 hf
    exact nd_loc [0, 1, 2] rfl (tX6_encode_202 l w hfl F d r k_118 hk_118 _ _ _ k_this _ hf)
  · replace hf := ifn c1 hf
    refine nd_aload_n (j := 0) dX6_encode_195 rfl rfl ?_
    refine nd_sipush (v := 130) dX6_encode_196 (by decide) ?_
    replace hf := cvE hf
    obtain ⟨h2, e_h2, hf⟩ := hf
    refine nd_Vv [] (tX6_make l w hfl F d k_this e_h2) rfl dX6_encode_199 mw_X6_make (Or.inl q1746) k_this rfl q1748 qs75 (by omega) (by omega) (Nat.le_of_ble_eq_true rfl) ?_
    exact nd_loc [0, 1, 2] rfl (tX6_encode_202 l w hfl F d r k_118 hk_118 _ _ _ k_this _ hf)
set_option maxHeartbeats 4000000 in
theorem tX6_encode_184 (l : Launch) (w : Wd) (hfl : l.stackTraces = false) (F d : Nat) (r : Hp) (k_118 : Nat → Int32 → Int32 → Hp → Option (Hp)) (hk_118 : ∀ (this : Nat) (x1 : Int32) (x3 : Int32) (k_this : nd_Kd this = 5) (h : Hp), k_118 this x1 x3 h = some r → nd_V l w yX6_encode cX6_encode 5 none 3 68 (.inl none, r) h 118 [(0, vr (some this)), (1, vi x1), (3, vi x3)] []) (this : Nat) (x1 : Int32) (x3 : Int32) (x4 : Int32) (s0 : Nat) (s1 : Int32) (k_this : nd_Kd this = 5) (k_s0 : nd_Kd s0 = 5) (h : Hp) (hf : fX6_encode_184 F d k_118 this x1 x3 x4 s0 s1 h = some r) : nd_V l w yX6_encode cX6_encode 5 none 3 68 (.inl none, r) h 184 [(0, vr (some this)), (1, vi x1), (3, vi x3), (4, vi x4)] [vi s1, vr (some s0)] := by
  unfold fX6_encode_184 at hf
  replace hf := cvE hf
  obtain ⟨h1, e_h1, hf⟩ := hf
  refine nd_Vv [] (tX6_make l w hfl F d k_s0 e_h1) rfl dX6_encode_184 mw_X6_make (Or.inl q1746) k_s0 rfl q1748 qs75 (by omega) (by omega) (Nat.le_of_ble_eq_true rfl) ?_
  exact nd_loc [0, 1, 2, 3] rfl (tX6_encode_187 l w hfl F d r k_118 hk_118 _ _ _ _ k_this _ hf)
set_option maxHeartbeats 4000000 in
theorem tX6_encode_118 (l : Launch) (w : Wd) (hfl : l.stackTraces = false) (F d : Nat) (r : Hp) : ∀ (n : Nat) (this : Nat) (x1 : Int32) (x3 : Int32) (k_this : nd_Kd this = 5) (h : Hp), fX6_encode_118 F d n this x1 x3 h = some r → nd_V l w yX6_encode cX6_encode 5 none 3 68 (.inl none, r) h 118 [(0, vr (some this)), (1, vi x1), (3, vi x3)] [] := by
  intro n
  induction n with
  | zero => intro _ _ _ _ _ hf; cases hf
  | succ n ih =>
    intro this x1 x3 k_this h hf
    unfold fX6_encode_118 at hf
    refine nd_iload_n (j := 2) dX6_encode_118 rfl rfl ?_
    refine nd_aload_n (j := 0) dX6_encode_119 rfl rfl ?_
    refine nd_getI (k := 24) dX6_encode_120 k_this rfl (Nat.le_of_ble_eq_true rfl) (nd_flO q1364) rfl ?_
    refine nd_icmp_ge (tgt := 218) dX6_encode_123 (by decide) (fun c1 => ?_) (fun c1 => ?_)
    · replace hf := ifp c1 hf
      cases hf
      exact nd_vret dX6_encode_218
    · replace hf := ifn c1 hf
      refine nd_aload_n (j := 0) dX6_encode_126 rfl rfl ?_
      refine nd_getP (k := 42) dX6_encode_127 k_this rfl (Nat.le_of_ble_eq_true rfl) (nd_flO q1382) rfl (fun ok2 => ?_)
      replace hf := nnE hf
      obtain ⟨a3, e_a3, hf⟩ := hf
      refine nd_topr e_a3.symm ?_
      have k_a3 : nd_Kd a3 = 20 := nd_c1 (ok2 a3 e_a3)
      refine nd_iload_n (j := 1) dX6_encode_130 rfl rfl ?_
      refine nd_aload_n (j := 0) dX6_encode_131 rfl rfl ?_
      refine nd_getP (k := 41) dX6_encode_132 k_this rfl (Nat.le_of_ble_eq_true rfl) (nd_flO q1381) rfl (fun ok4 => ?_)
      replace hf := nnE hf
      obtain ⟨a5, e_a5, hf⟩ := hf
      refine nd_topr e_a5.symm ?_
      have k_a5 : nd_Kd a5 = 20 := nd_c1 (ok4 a5 e_a5)
      refine nd_iload_n (j := 1) dX6_encode_135 rfl rfl ?_
      replace hf := ckE hf
      obtain ⟨c6, hf⟩ := hf
      refine nd_iald dX6_encode_136 k_a5 c6 ?_
      refine nd_iadd dX6_encode_137 ?_
      replace hf := ckE hf
      obtain ⟨c7, hf⟩ := hf
      refine nd_iald dX6_encode_138 k_a3 c7 ?_
      refine nd_aload_n (j := 0) dX6_encode_139 rfl rfl ?_
      refine nd_getI (k := 29) dX6_encode_140 k_this rfl (Nat.le_of_ble_eq_true rfl) (nd_flO q1369) rfl ?_
      refine nd_isub dX6_encode_143 ?_
      replace hf := bnE hf
      obtain ⟨v8, e_v8, hf⟩ := hf
      refine nd_top e_v8 ?_
      refine nd_istore [(4, vi v8), (0, vr (some this)), (1, vi x1), (3, vi x3)] dX6_encode_144 (Nat.le_of_ble_eq_true rfl) rfl ?_
      refine nd_aload_n (j := 1) dX6_encode_146 rfl rfl ?_
      refine nd_iload (j := 0) dX6_encode_147 rfl ?_
      refine nd_sipush (v := 256) dX6_encode_149 (by decide) ?_
      refine nd_irem dX6_encode_152 (by decide) ?_
      replace hf := cvE hf
      obtain ⟨h9, e_h9, hf⟩ := hf
      refine nd_Vv [] (tX6_make l w hfl F d k_this e_h9) rfl dX6_encode_153 mw_X6_make (Or.inl q1746) k_this rfl q1748 qs75 (by omega) (by omega) (Nat.le_of_ble_eq_true rfl) ?_
      refine nd_iload (j := 0) dX6_encode_156 rfl ?_
      refine nd_bipush (v := 127) dX6_encode_158 (by decide) ?_
      refine nd_icmp_le (tgt := 187) dX6_encode_160 (by decide) (fun c11 => ?_) (fun c11 => ?_)
      · replace hf := ifp c11 hf
        exact nd_loc [1, 2, 3, 0] rfl (tX6_encode_187 l w hfl F d r (fX6_encode_118 F d n) ih _ _ _ _ k_this _ hf)
      · replace hf := ifn c11 hf
        refine nd_aload_n (j := 1) dX6_encode_163 rfl rfl ?_
        refine nd_iload (j := 0) dX6_encode_164 rfl ?_
        refine nd_sipush (v := 255) dX6_encode_166 (by decide) ?_
        refine nd_icmp_le (tgt := 181) dX6_encode_169 (by decide) (fun c12 => ?_) (fun c12 => ?_)
        · replace hf := ifp c12 hf
          refine nd_sipush (v := 129) dX6_encode_181 (by decide) ?_
          exact nd_loc [1, 2, 3, 0] rfl (tX6_encode_184 l w hfl F d r (fX6_encode_118 F d n) ih _ _ _ _ _ _ k_this k_this _ hf)
        · replace hf := ifn c12 hf
          refine nd_iload (j := 0) dX6_encode_172 rfl ?_
          refine nd_sipush (v := 256) dX6_encode_174 (by decide) ?_
          refine nd_idiv dX6_encode_177 (by decide) ?_
          refine nd_goto (tgt := 184) dX6_encode_178 (by decide) ?_
          exact nd_loc [1, 2, 3, 0] rfl (tX6_encode_184 l w hfl F d r (fX6_encode_118 F d n) ih _ _ _ _ _ _ k_this k_this _ hf)
set_option maxHeartbeats 4000000 in
theorem tX6_encode_116 (l : Launch) (w : Wd) (hfl : l.stackTraces = false) (F d : Nat) (r : Hp) (this : Nat) (x1 : Int32) (k_this : nd_Kd this = 5) (h : Hp) (hf : fX6_encode_116 F d this x1 h = some r) : nd_V l w yX6_encode cX6_encode 5 none 3 68 (.inl none, r) h 116 [(0, vr (some this)), (1, vi x1)] [] := by
  unfold fX6_encode_116 at hf
  refine nd_iconst (v := 0) dX6_encode_116 (by decide) ?_
  refine nd_istore_n [(3, vi 0), (0, vr (some this)), (1, vi x1)] dX6_encode_117 rfl (Nat.le_of_ble_eq_true rfl) rfl ?_
  exact nd_loc [1, 2, 0] rfl (tX6_encode_118 l w hfl F d r F _ _ _ k_this _ hf)
set_option maxHeartbeats 4000000 in
theorem tX6_encode_97 (l : Launch) (w : Wd) (hfl : l.stackTraces = false) (F d : Nat) (r : Hp) (this : Nat) (x1 : Int32) (x2 : Int32) (k_this : nd_Kd this = 5) (h : Hp) (hf : fX6_encode_97 F d this x1 x2 h = some r) : nd_V l w yX6_encode cX6_encode 5 none 3 68 (.inl none, r) h 97 [(0, vr (some this)), (1, vi x1), (2, vi x2)] [] := by
  unfold fX6_encode_97 at hf
  refine nd_iload_n (j := 2) dX6_encode_97 rfl rfl ?_
  refine nd_iconst (v := 1) dX6_encode_98 (by decide) ?_
  refine nd_icmp_ne (tgt := 116) dX6_encode_99 (by decide) (fun c1 => ?_) (fun c1 => ?_)
  · replace hf := ifn c1 hf
    exact nd_loc [0, 1] rfl (tX6_encode_116 l w hfl F d r _ _ k_this _ hf)
  · replace hf := ifp c1 hf
    refine nd_aload_n (j := 0) dX6_encode_102 rfl rfl ?_
    refine nd_sipush (v := 255) dX6_encode_103 (by decide) ?_
    refine nd_aload_n (j := 0) dX6_encode_106 rfl rfl ?_
    refine nd_getP (k := 37) dX6_encode_107 k_this rfl (Nat.le_of_ble_eq_true rfl) (nd_flO q1377) rfl (fun ok2 => ?_)
    replace hf := nnE hf
    obtain ⟨a3, e_a3, hf⟩ := hf
    refine nd_topr e_a3.symm ?_
    have k_a3 : nd_Kd a3 = 20 := nd_c1 (ok2 a3 e_a3)
    refine nd_iload_n (j := 1) dX6_encode_110 rfl rfl ?_
    replace hf := ckE hf
    obtain ⟨c4, hf⟩ := hf
    refine nd_iald dX6_encode_111 k_a3 c4 ?_
    refine nd_imul dX6_encode_112 ?_
    replace hf := cvE hf
    obtain ⟨h5, e_h5, hf⟩ := hf
    refine nd_Vv [] (tX6_make l w hfl F d k_this e_h5) rfl dX6_encode_113 mw_X6_make (Or.inl q1746) k_this rfl q1748 qs75 (by omega) (by omega) (Nat.le_of_ble_eq_true rfl) ?_
    exact nd_loc [0, 1] rfl (tX6_encode_116 l w hfl F d r _ _ k_this _ hf)
set_option maxHeartbeats 4000000 in
theorem tX6_encode_54 (l : Launch) (w : Wd) (hfl : l.stackTraces = false) (F d : Nat) (r : Hp) : ∀ (n : Nat) (this : Nat) (x1 : Int32) (x2 : Int32) (x3 : Int32) (k_this : nd_Kd this = 5) (h : Hp), fX6_encode_54 F d n this x1 x2 x3 h = some r → nd_V l w yX6_encode cX6_encode 5 none 3 68 (.inl none, r) h 54 [(0, vr (some this)), (1, vi x1), (2, vi x2), (3, vi x3)] [] := by
  intro n
  induction n with
  | zero => intro _ _ _ _ _ _ hf; cases hf
  | succ n ih =>
    intro this x1 x2 x3 k_this h hf
    unfold fX6_encode_54 at hf
    refine nd_iload_n (j := 3) dX6_encode_54 rfl rfl ?_
    refine nd_aload_n (j := 0) dX6_encode_55 rfl rfl ?_
    refine nd_getP (k := 37) dX6_encode_56 k_this rfl (Nat.le_of_ble_eq_true rfl) (nd_flO q1377) rfl (fun ok1 => ?_)
    replace hf := nnE hf
    obtain ⟨a2, e_a2, hf⟩ := hf
    refine nd_topr e_a2.symm ?_
    have k_a2 : nd_Kd a2 = 20 := nd_c1 (ok1 a2 e_a2)
    refine nd_iload_n (j := 1) dX6_encode_59 rfl rfl ?_
    replace hf := ckE hf
    obtain ⟨c3, hf⟩ := hf
    refine nd_iald dX6_encode_60 k_a2 c3 ?_
    replace hf := caE hf
    obtain ⟨v5, h4, e_h4, hf⟩ := hf
    refine nd_Si [vi x3] (tX6_bytesOf l w hfl F d e_h4) rfl dX6_encode_61 mw_X6_bytesOf (Or.inl q1670) q1671 (by omega) (by omega) (Nat.le_of_ble_eq_true rfl) ?_
    refine nd_icmp_ge (tgt := 97) dX6_encode_64 (by decide) (fun c6 => ?_) (fun c6 => ?_)
    · replace hf := ifp c6 hf
      exact nd_loc [0, 1, 2] rfl (tX6_encode_97 l w hfl F d r _ _ _ k_this _ hf)
    · replace hf := ifn c6 hf
      refine nd_iload_n (j := 2) dX6_encode_67 rfl rfl ?_
      refine nd_iconst (v := 2) dX6_encode_68 (by decide) ?_
      refine nd_icmp_ne (tgt := 97) dX6_encode_69 (by decide) (fun c7 => ?_) (fun c7 => ?_)
      · replace hf := ifn c7 hf
        exact nd_loc [0, 1, 2] rfl (tX6_encode_97 l w hfl F d r _ _ _ k_this _ hf)
      · replace hf := ifp c7 hf
        refine nd_aload_n (j := 0) dX6_encode_72 rfl rfl ?_
        refine nd_aload_n (j := 0) dX6_encode_73 rfl rfl ?_
        refine nd_getP (k := 37) dX6_encode_74 k_this rfl (Nat.le_of_ble_eq_true rfl) (nd_flO q1377) rfl (fun ok8 => ?_)
        replace hf := nnE hf
        obtain ⟨a9, e_a9, hf⟩ := hf
        refine nd_topr e_a9.symm ?_
        have k_a9 : nd_Kd a9 = 20 := nd_c1 (ok8 a9 e_a9)
        refine nd_iload_n (j := 1) dX6_encode_77 rfl rfl ?_
        replace hf := ckE hf
        obtain ⟨c10, hf⟩ := hf
        refine nd_iald dX6_encode_78 k_a9 c10 ?_
        refine nd_bipush (v := 8) dX6_encode_79 (by decide) ?_
        refine nd_iload_n (j := 3) dX6_encode_81 rfl rfl ?_
        refine nd_imul dX6_encode_82 ?_
        refine nd_ishr dX6_encode_83 ?_
        refine nd_sipush (v := 255) dX6_encode_84 (by decide) ?_
        refine nd_iand dX6_encode_87 ?_
        replace hf := cvE hf
        obtain ⟨h11, e_h11, hf⟩ := hf
        refine nd_Vv [] (tX6_make l w hfl F d k_this e_h11) rfl dX6_encode_88 mw_X6_make (Or.inl q1746) k_this rfl q1748 qs75 (by omega) (by omega) (Nat.le_of_ble_eq_true rfl) ?_
        replace hf := bnE hf
        obtain ⟨v13, e_v13, hf⟩ := hf
        refine nd_iinc (v := v13) (j := 3) [(3, vi v13), (0, vr (some this)), (1, vi x1), (2, vi x2)] dX6_encode_91 rfl (by rw [e_v13]; rfl) (Nat.le_of_ble_eq_true rfl) rfl ?_
        refine nd_goto (tgt := 54) dX6_encode_94 (by decide) ?_
        exact nd_loc [1, 2, 3, 0] rfl (ih _ _ _ _ k_this _ hf)
set_option maxHeartbeats 4000000 in
theorem tX6_encode_52 (l : Launch) (w : Wd) (hfl : l.stackTraces = false) (F d : Nat) (r : Hp) (this : Nat) (x1 : Int32) (x2 : Int32) (k_this : nd_Kd this = 5) (h : Hp) (hf : fX6_encode_52 F d this x1 x2 h = some r) : nd_V l w yX6_encode cX6_encode 5 none 3 68 (.inl none, r) h 52 [(0, vr (some this)), (1, vi x1), (2, vi x2)] [] := by
  unfold fX6_encode_52 at hf
  refine nd_iconst (v := 0) dX6_encode_52 (by decide) ?_
  refine nd_istore_n [(3, vi 0), (0, vr (some this)), (1, vi x1), (2, vi x2)] dX6_encode_53 rfl (Nat.le_of_ble_eq_true rfl) rfl ?_
  exact nd_loc [1, 2, 3, 0] rfl (tX6_encode_54 l w hfl F d r F _ _ _ _ k_this _ hf)
set_option maxHeartbeats 4000000 in
theorem tX6_encode_20 (l : Launch) (w : Wd) (hfl : l.stackTraces = false) (F d : Nat) (r : Hp) : ∀ (n : Nat) (this : Nat) (x1 : Int32) (x2 : Int32) (x3 : Int32) (k_this : nd_Kd this = 5) (h : Hp), fX6_encode_20 F d n this x1 x2 x3 h = some r → nd_V l w yX6_encode cX6_encode 5 none 3 68 (.inl none, r) h 20 [(0, vr (some this)), (1, vi x1), (2, vi x2), (3, vi x3)] [] := by
  intro n
  induction n with
  | zero => intro _ _ _ _ _ _ hf; cases hf
  | succ n ih =>
    intro this x1 x2 x3 k_this h hf
    unfold fX6_encode_20 at hf
    refine nd_iload_n (j := 3) dX6_encode_20 rfl rfl ?_
    refine nd_if_lt (tgt := 52) dX6_encode_21 (by decide) (fun c1 => ?_) (fun c1 => ?_)
    · replace hf := ifp c1 hf
      exact nd_loc [0, 1, 2] rfl (tX6_encode_52 l w hfl F d r _ _ _ k_this _ hf)
    · replace hf := ifn c1 hf
      refine nd_iload_n (j := 2) dX6_encode_24 rfl rfl ?_
      refine nd_iconst (v := 4) dX6_encode_25 (by decide) ?_
      refine nd_icmp_ne (tgt := 52) dX6_encode_26 (by decide) (fun c2 => ?_) (fun c2 => ?_)
      · replace hf := ifn c2 hf
        exact nd_loc [0, 1, 2] rfl (tX6_encode_52 l w hfl F d r _ _ _ k_this _ hf)
      · replace hf := ifp c2 hf
        refine nd_aload_n (j := 0) dX6_encode_29 rfl rfl ?_
        refine nd_aload_n (j := 0) dX6_encode_30 rfl rfl ?_
        refine nd_getP (k := 43) dX6_encode_31 k_this rfl (Nat.le_of_ble_eq_true rfl) (nd_flO q1383) rfl (fun ok3 => ?_)
        replace hf := nnE hf
        obtain ⟨a4, e_a4, hf⟩ := hf
        refine nd_topr e_a4.symm ?_
        have k_a4 : nd_Kd a4 = 20 := nd_c1 (ok3 a4 e_a4)
        refine nd_aload_n (j := 0) dX6_encode_34 rfl rfl ?_
        refine nd_getP (k := 40) dX6_encode_35 k_this rfl (Nat.le_of_ble_eq_true rfl) (nd_flO q1380) rfl (fun ok5 => ?_)
        replace hf := nnE hf
        obtain ⟨a6, e_a6, hf⟩ := hf
        refine nd_topr e_a6.symm ?_
        have k_a6 : nd_Kd a6 = 20 := nd_c1 (ok5 a6 e_a6)
        refine nd_iload_n (j := 1) dX6_encode_38 rfl rfl ?_
        replace hf := ckE hf
        obtain ⟨c7, hf⟩ := hf
        refine nd_iald dX6_encode_39 k_a6 c7 ?_
        refine nd_iload_n (j := 3) dX6_encode_40 rfl rfl ?_
        refine nd_iadd dX6_encode_41 ?_
        replace hf := ckE hf
        obtain ⟨c8, hf⟩ := hf
        refine nd_iald dX6_encode_42 k_a4 c8 ?_
        replace hf := cvE hf
        obtain ⟨h9, e_h9, hf⟩ := hf
        refine nd_Vv [] (tX6_make l w hfl F d k_this e_h9) rfl dX6_encode_43 mw_X6_make (Or.inl q1746) k_this rfl q1748 qs75 (by omega) (by omega) (Nat.le_of_ble_eq_true rfl) ?_
        replace hf := bnE hf
        obtain ⟨v11, e_v11, hf⟩ := hf
        refine nd_iinc (v := v11) (j := 3) [(3, vi v11), (0, vr (some this)), (1, vi x1), (2, vi x2)] dX6_encode_46 rfl (by rw [e_v11]; rfl) (Nat.le_of_ble_eq_true rfl) rfl ?_
        refine nd_goto (tgt := 20) dX6_encode_49 (by decide) ?_
        exact nd_loc [1, 2, 3, 0] rfl (ih _ _ _ _ k_this _ hf)
set_option maxHeartbeats 4000000 in
theorem tX6_encode (l : Launch) (w : Wd) (hfl : l.stackTraces = false) (F d : Nat) {this : Nat} {p0 : Int32} (k_this : nd_Kd this = 5) {h : Hp} {r : Hp} (hf : fX6_encode F d this p0 h = some r) : nd_C l w yX6_encode cX6_encode 5 none 3 68 [vr (some this), vi p0] h (.inl none, r) := by
  refine nd_start (as := [vr (some this), vi p0]) hfl (by decide) (Nat.le_of_ble_eq_true rfl) ?_
  unfold fX6_encode at hf
  refine nd_eqL (L' := [(0, vr (some this)), (1, vi p0)]) rfl ?_
  refine nd_aload_n (j := 0) dX6_encode_0 rfl rfl ?_
  refine nd_getP (k := 11) dX6_encode_1 k_this rfl (Nat.le_of_ble_eq_true rfl) (nd_flO q1351) rfl (fun ok1 => ?_)
  replace hf := nnE hf
  obtain ⟨a2, e_a2, hf⟩ := hf
  refine nd_topr e_a2.symm ?_
  have k_a2 : nd_Kd a2 = 20 := nd_c1 (ok1 a2 e_a2)
  refine nd_aload_n (j := 0) dX6_encode_4 rfl rfl ?_
  refine nd_iload_n (j := 1) dX6_encode_5 rfl rfl ?_
  replace hf := caE hf
  obtain ⟨v4, h3, e_h3, hf⟩ := hf
  refine nd_Vi [vr (some a2)] (tX6_baseOf l w hfl F d k_this e_h3) rfl dX6_encode_6 mw_X6_baseOf (Or.inl q1714) k_this rfl q1716 qs67 (by omega) (by omega) (Nat.le_of_ble_eq_true rfl) ?_
  replace hf := ckE hf
  obtain ⟨c5, hf⟩ := hf
  refine nd_iald dX6_encode_9 k_a2 c5 ?_
  replace hf := bnE hf
  obtain ⟨v6, e_v6, hf⟩ := hf
  refine nd_top e_v6 ?_
  refine nd_istore_n [(2, vi v6), (0, vr (some this)), (1, vi p0)] dX6_encode_10 rfl (Nat.le_of_ble_eq_true rfl) rfl ?_
  refine nd_aload_n (j := 1) dX6_encode_11 rfl rfl ?_
  refine nd_getP (k := 37) dX6_encode_12 k_this rfl (Nat.le_of_ble_eq_true rfl) (nd_flO q1377) rfl (fun ok7 => ?_)
  replace hf := nnE hf
  obtain ⟨a8, e_a8, hf⟩ := hf
  refine nd_topr e_a8.symm ?_
  have k_a8 : nd_Kd a8 = 20 := nd_c1 (ok7 a8 e_a8)
  refine nd_iload_n (j := 2) dX6_encode_15 rfl rfl ?_
  replace hf := ckE hf
  obtain ⟨c9, hf⟩ := hf
  refine nd_iald dX6_encode_16 k_a8 c9 ?_
  refine nd_iconst (v := 1) dX6_encode_17 (by decide) ?_
  refine nd_isub dX6_encode_18 ?_
  replace hf := bnE hf
  obtain ⟨v10, e_v10, hf⟩ := hf
  refine nd_top e_v10 ?_
  refine nd_istore_n [(3, vi v10), (2, vi v6), (0, vr (some this)), (1, vi p0)] dX6_encode_19 rfl (Nat.le_of_ble_eq_true rfl) rfl ?_
  exact nd_loc [2, 3, 1, 0] rfl (tX6_encode_20 l w hfl F d r F _ _ _ _ k_this _ hf)
def fX6_bring_31 (F d : Nat) (k_4 : Nat → Int32 → Int32 → Hp → Option (Hp)) (this : Nat) (x1 : Int32) (x3 : Int32) (h : Hp) : Option (Hp) :=
  nn (gP h 633 this) fun a2 => (
  nn (gP h 633 this) fun a4 => (
  ck (inb ((gI h 630 this) / 8) (nd_Ln a4)) (
  bn (gI h 630 this) fun v6 => (
  ck (inb ((gI h 630 this) / 8) (nd_Ln a2)) (
  bn (sA h a2 (Int32.toNatClampNeg ((gI h 630 this) / 8)) ((gA h a4 (Int32.toNatClampNeg ((gI h 630 this) / 8))) ||| (((x1 >>> (x3 &&& 31)) &&& 1) <<< ((7 - (v6 - v6 / 8 * 8)) &&& 31)))) fun h8 => (
  bn (sI h8 630 this ((gI h8 630 this) + 1)) fun h9 => (
  bn (x3 + (-1)) fun v10 => (
  k_4 this x1 v10 h9))))))))
def fX6_bring_4 (F d : Nat) : Nat → Nat → Int32 → Int32 → Hp → Option (Hp)
  | 0, _, _, _, _ => none
  | n + 1, this, x1, x3, h =>
    if x3 < 0 then
    (some h)
    else
    (bn (gI h 630 this) fun v2 => (
    if (v2 - v2 / 8 * 8) = 0 then
    (nn (gP h 633 this) fun a5 => (
    ck (inb ((gI h 630 this) / 8) (nd_Ln a5)) (
    bn (sA h a5 (Int32.toNatClampNeg ((gI h 630 this) / 8)) 0) fun h7 => (
    fX6_bring_31 F d (fX6_bring_4 F d n) this x1 x3 h7))))
    else
    (fX6_bring_31 F d (fX6_bring_4 F d n) this x1 x3 h)))
def fX6_bring (F d : Nat) (this : Nat) (p0 : Int32) (p1 : Int32) (h : Hp) : Option (Hp) :=
  bn (p1 - 1) fun v1 => (
  fX6_bring_4 F d F this p0 v1 h)
theorem mw_X6_bring : nd_MW yX6_bring cX6_bring 4 none 2 := ⟨q1757, q91, by decide, by decide, by decide +kernel⟩
set_option maxHeartbeats 4000000 in
theorem tX6_bring_31 (l : Launch) (w : Wd) (hfl : l.stackTraces = false) (F d : Nat) (r : Hp) (k_4 : Nat → Int32 → Int32 → Hp → Option (Hp)) (hk_4 : ∀ (this : Nat) (x1 : Int32) (x3 : Int32) (k_this : nd_Kd this = 5) (h : Hp), k_4 this x1 x3 h = some r → nd_V l w yX6_bring cX6_bring 4 none 0 0 (.inl none, r) h 4 [(0, vr (some this)), (1, vi x1), (3, vi x3)] []) (this : Nat) (x1 : Int32) (x3 : Int32) (k_this : nd_Kd this = 5) (h : Hp) (hf : fX6_bring_31 F d k_4 this x1 x3 h = some r) : nd_V l w yX6_bring cX6_bring 4 none 0 0 (.inl none, r) h 31 [(0, vr (some this)), (1, vi x1), (3, vi x3)] [] := by
  unfold fX6_bring_31 at hf
  refine nd_aload_n (j := 0) dX6_bring_31 rfl rfl ?_
  refine nd_getP (k := 33) dX6_bring_32 k_this rfl (Nat.le_of_ble_eq_true rfl) (nd_flO q1373) rfl (fun ok1 => ?_)
  replace hf := nnE hf
  obtain ⟨a2, e_a2, hf⟩ := hf
  refine nd_topr e_a2.symm ?_
  have k_a2 : nd_Kd a2 = 20 := nd_c1 (ok1 a2 e_a2)
  refine nd_aload_n (j := 0) dX6_bring_35 rfl rfl ?_
  refine nd_getI (k := 30) dX6_bring_36 k_this rfl (Nat.le_of_ble_eq_true rfl) (nd_flO q1370) rfl ?_
  refine nd_bipush (v := 8) dX6_bring_39 (by decide) ?_
  refine nd_idiv dX6_bring_41 (by decide) ?_
  refine nd_aload_n (j := 0) dX6_bring_42 rfl rfl ?_
  refine nd_getP (k := 33) dX6_bring_43 k_this rfl (Nat.le_of_ble_eq_true rfl) (nd_flO q1373) rfl (fun ok3 => ?_)
  replace hf := nnE hf
  obtain ⟨a4, e_a4, hf⟩ := hf
  refine nd_topr e_a4.symm ?_
  have k_a4 : nd_Kd a4 = 20 := nd_c1 (ok3 a4 e_a4)
  refine nd_aload_n (j := 0) dX6_bring_46 rfl rfl ?_
  refine nd_getI (k := 30) dX6_bring_47 k_this rfl (Nat.le_of_ble_eq_true rfl) (nd_flO q1370) rfl ?_
  refine nd_bipush (v := 8) dX6_bring_50 (by decide) ?_
  refine nd_idiv dX6_bring_52 (by decide) ?_
  replace hf := ckE hf
  obtain ⟨c5, hf⟩ := hf
  refine nd_iald dX6_bring_53 k_a4 c5 ?_
  refine nd_iload_n (j := 1) dX6_bring_54 rfl rfl ?_
  refine nd_iload_n (j := 2) dX6_bring_55 rfl rfl ?_
  refine nd_ishr dX6_bring_56 ?_
  refine nd_iconst (v := 1) dX6_bring_57 (by decide) ?_
  refine nd_iand dX6_bring_58 ?_
  refine nd_bipush (v := 7) dX6_bring_59 (by decide) ?_
  refine nd_aload_n (j := 0) dX6_bring_61 rfl rfl ?_
  refine nd_getI (k := 30) dX6_bring_62 k_this rfl (Nat.le_of_ble_eq_true rfl) (nd_flO q1370) rfl ?_
  refine nd_bipush (v := 8) dX6_bring_65 (by decide) ?_
  replace hf := bnE hf
  obtain ⟨v6, e_v6, hf⟩ := hf
  refine nd_top2 e_v6 ?_
  refine nd_irem dX6_bring_67 (by decide) ?_
  refine nd_isub dX6_bring_68 ?_
  refine nd_ishl dX6_bring_69 ?_
  refine nd_ior dX6_bring_70 ?_
  replace hf := ckE hf
  obtain ⟨c7, hf⟩ := hf
  refine nd_iast dX6_bring_71 k_a2 c7 ?_
  replace hf := bnE hf
  obtain ⟨h8, e_h8, hf⟩ := hf
  refine nd_hp e_h8 ?_
  refine nd_aload_n (j := 0) dX6_bring_72 rfl rfl ?_
  refine nd_dup dX6_bring_73 rfl ?_
  refine nd_getI (k := 30) dX6_bring_74 k_this rfl (Nat.le_of_ble_eq_true rfl) (nd_flO q1370) rfl ?_
  refine nd_iconst (v := 1) dX6_bring_77 (by decide) ?_
  refine nd_iadd dX6_bring_78 ?_
  refine nd_putN (k := 30) dX6_bring_79 k_this rfl (Nat.le_of_ble_eq_true rfl) (nd_flO q1370) rfl rfl rfl ?_
  replace hf := bnE hf
  obtain ⟨h9, e_h9, hf⟩ := hf
  refine nd_hp e_h9 ?_
  replace hf := bnE hf
  obtain ⟨v10, e_v10, hf⟩ := hf
  refine nd_iinc (v := v10) (j := 2) [(3, vi v10), (0, vr (some this)), (1, vi x1)] dX6_bring_82 rfl (by rw [e_v10]; rfl) (Nat.le_of_ble_eq_true rfl) rfl ?_
  refine nd_goto (tgt := 4) dX6_bring_85 (by decide) ?_
  exact nd_loc [1, 2, 0] rfl (hk_4 _ _ _ k_this _ hf)
set_option maxHeartbeats 4000000 in
theorem tX6_bring_4 (l : Launch) (w : Wd) (hfl : l.stackTraces = false) (F d : Nat) (r : Hp) : ∀ (n : Nat) (this : Nat) (x1 : Int32) (x3 : Int32) (k_this : nd_Kd this = 5) (h : Hp), fX6_bring_4 F d n this x1 x3 h = some r → nd_V l w yX6_bring cX6_bring 4 none 0 0 (.inl none, r) h 4 [(0, vr (some this)), (1, vi x1), (3, vi x3)] [] := by
  intro n
  induction n with
  | zero => intro _ _ _ _ _ hf; cases hf
  | succ n ih =>
    intro this x1 x3 k_this h hf
    unfold fX6_bring_4 at hf
    refine nd_iload_n (j := 2) dX6_bring_4 rfl rfl ?_
    refine nd_if_lt (tgt := 88) dX6_bring_5 (by decide) (fun c1 => ?_) (fun c1 => ?_)
    · replace hf := ifp c1 hf
      cases hf
      exact nd_vret dX6_bring_88
    · replace hf := ifn c1 hf
      refine nd_aload_n (j := 0) dX6_bring_8 rfl rfl ?_
      refine nd_getI (k := 30) dX6_bring_9 k_this rfl (Nat.le_of_ble_eq_true rfl) (nd_flO q1370) rfl ?_
      refine nd_bipush (v := 8) dX6_bring_12 (by decide) ?_
      replace hf := bnE hf
      obtain ⟨v2, e_v2, hf⟩ := hf
      refine nd_top2 e_v2 ?_
      refine nd_irem dX6_bring_14 (by decide) ?_
      refine nd_if_ne (tgt := 31) dX6_bring_15 (by decide) (fun c3 => ?_) (fun c3 => ?_)
      · replace hf := ifn c3 hf
        exact nd_loc [0, 1, 2] rfl (tX6_bring_31 l w hfl F d r (fX6_bring_4 F d n) ih _ _ _ k_this _ hf)
      · replace hf := ifp c3 hf
        refine nd_aload_n (j := 0) dX6_bring_18 rfl rfl ?_
        refine nd_getP (k := 33) dX6_bring_19 k_this rfl (Nat.le_of_ble_eq_true rfl) (nd_flO q1373) rfl (fun ok4 => ?_)
        replace hf := nnE hf
        obtain ⟨a5, e_a5, hf⟩ := hf
        refine nd_topr e_a5.symm ?_
        have k_a5 : nd_Kd a5 = 20 := nd_c1 (ok4 a5 e_a5)
        refine nd_aload_n (j := 0) dX6_bring_22 rfl rfl ?_
        refine nd_getI (k := 30) dX6_bring_23 k_this rfl (Nat.le_of_ble_eq_true rfl) (nd_flO q1370) rfl ?_
        refine nd_bipush (v := 8) dX6_bring_26 (by decide) ?_
        refine nd_idiv dX6_bring_28 (by decide) ?_
        refine nd_iconst (v := 0) dX6_bring_29 (by decide) ?_
        replace hf := ckE hf
        obtain ⟨c6, hf⟩ := hf
        refine nd_iast dX6_bring_30 k_a5 c6 ?_
        replace hf := bnE hf
        obtain ⟨h7, e_h7, hf⟩ := hf
        refine nd_hp e_h7 ?_
        exact nd_loc [0, 1, 2] rfl (tX6_bring_31 l w hfl F d r (fX6_bring_4 F d n) ih _ _ _ k_this _ hf)
set_option maxHeartbeats 4000000 in
theorem tX6_bring (l : Launch) (w : Wd) (hfl : l.stackTraces = false) (F d : Nat) {this : Nat} {p0 : Int32} {p1 : Int32} (k_this : nd_Kd this = 5) {h : Hp} {r : Hp} (hf : fX6_bring F d this p0 p1 h = some r) : nd_C l w yX6_bring cX6_bring 4 none 0 0 [vr (some this), vi p0, vi p1] h (.inl none, r) := by
  refine nd_start (as := [vr (some this), vi p0, vi p1]) hfl (by decide) (Nat.le_of_ble_eq_true rfl) ?_
  unfold fX6_bring at hf
  refine nd_eqL (L' := [(0, vr (some this)), (1, vi p0), (2, vi p1)]) rfl ?_
  refine nd_iload_n (j := 2) dX6_bring_0 rfl rfl ?_
  refine nd_iconst (v := 1) dX6_bring_1 (by decide) ?_
  refine nd_isub dX6_bring_2 ?_
  replace hf := bnE hf
  obtain ⟨v1, e_v1, hf⟩ := hf
  refine nd_top e_v1 ?_
  refine nd_istore_n [(3, vi v1), (0, vr (some this)), (1, vi p0), (2, vi p1)] dX6_bring_3 rfl (Nat.le_of_ble_eq_true rfl) rfl ?_
  exact nd_loc [1, 2, 0] rfl (tX6_bring_4 l w hfl F d r F _ _ _ k_this _ hf)
def fX6_fill (F d : Nat) (this : Nat) (h : Hp) : Option (Hp) :=
  bn (gI h 630 this) fun v1 => (
  if (v1 - v1 / 8 * 8) ≤ 0 then
  (some h)
  else
  (bn (gI h 630 this) fun v3 => (
  bn (sI h 630 this ((gI h 630 this) + (8 - (v3 - v3 / 8 * 8)))) fun h4 => (
  some h4))))
theorem mw_X6_fill : nd_MW yX6_fill cX6_fill 1 none 0 := ⟨q1765, q91, by decide, by decide, by decide +kernel⟩
set_option maxHeartbeats 4000000 in
theorem tX6_fill (l : Launch) (w : Wd) (hfl : l.stackTraces = false) (F d : Nat) {this : Nat} (k_this : nd_Kd this = 5) {h : Hp} {r : Hp} (hf : fX6_fill F d this h = some r) : nd_C l w yX6_fill cX6_fill 1 none 0 0 [vr (some this)] h (.inl none, r) := by
  refine nd_start (as := [vr (some this)]) hfl (by decide) (Nat.le_of_ble_eq_true rfl) ?_
  unfold fX6_fill at hf
  refine nd_eqL (L' := [(0, vr (some this))]) rfl ?_
  refine nd_aload_n (j := 0) dX6_fill_0 rfl rfl ?_
  refine nd_getI (k := 30) dX6_fill_1 k_this rfl (Nat.le_of_ble_eq_true rfl) (nd_flO q1370) rfl ?_
  refine nd_bipush (v := 8) dX6_fill_4 (by decide) ?_
  replace hf := bnE hf
  obtain ⟨v1, e_v1, hf⟩ := hf
  refine nd_top2 e_v1 ?_
  refine nd_irem dX6_fill_6 (by decide) ?_
  refine nd_if_le (tgt := 29) dX6_fill_7 (by decide) (fun c2 => ?_) (fun c2 => ?_)
  · replace hf := ifp c2 hf
    cases hf
    exact nd_vret dX6_fill_29
  · replace hf := ifn c2 hf
    refine nd_aload_n (j := 0) dX6_fill_10 rfl rfl ?_
    refine nd_dup dX6_fill_11 rfl ?_
    refine nd_getI (k := 30) dX6_fill_12 k_this rfl (Nat.le_of_ble_eq_true rfl) (nd_flO q1370) rfl ?_
    refine nd_bipush (v := 8) dX6_fill_15 (by decide) ?_
    refine nd_aload_n (j := 0) dX6_fill_17 rfl rfl ?_
    refine nd_getI (k := 30) dX6_fill_18 k_this rfl (Nat.le_of_ble_eq_true rfl) (nd_flO q1370) rfl ?_
    refine nd_bipush (v := 8) dX6_fill_21 (by decide) ?_
    replace hf := bnE hf
    obtain ⟨v3, e_v3, hf⟩ := hf
    refine nd_top2 e_v3 ?_
    refine nd_irem dX6_fill_23 (by decide) ?_
    refine nd_isub dX6_fill_24 ?_
    refine nd_iadd dX6_fill_25 ?_
    refine nd_putN (k := 30) dX6_fill_26 k_this rfl (Nat.le_of_ble_eq_true rfl) (nd_flO q1370) rfl rfl rfl ?_
    replace hf := bnE hf
    obtain ⟨h4, e_h4, hf⟩ := hf
    refine nd_hp e_h4 ?_
    cases hf
    exact nd_vret dX6_fill_29
def fX6_bringOf_52 (F d : Nat) (s0 : Nat) (s1 : Int32) (s2 : Int32) (h : Hp) : Option (Hp) :=
  cv (fX6_bring F d s0 s1 s2 h) fun h1 => (
  some h1)
def fX6_bringOf_17 (F d : Nat) (this : Nat) (x1 : Int32) (x2 : Int32) (x4 : Int32) (h : Hp) : Option (Hp) :=
  if 255 ≤ x4 then
  (if x4 = 255 then
  (fX6_bringOf_52 F d this (x1 - x2) 8 h)
  else
  (fX6_bringOf_52 F d this (x1 - x2) 16 h))
  else
  (ca (fX6_width F d x4 h) fun v4 h3 => (
  fX6_bringOf_52 F d this (x1 - x2) v4 h3))
def fX6_bringOf (F d : Nat) (this : Nat) (p0 : Int32) (p1 : Int32) (p2 : Int32) (h : Hp) : Option (Hp) :=
  bn (p2 - p1) fun v1 => (
  if v1 ≤ 254 then
  (fX6_bringOf_17 F d this p0 p1 v1 h)
  else
  (cv (fX6_fill F d this h) fun h3 => (
  fX6_bringOf_17 F d this p0 p1 v1 h3)))
theorem mw_X6_bringOf : nd_MW yX6_bringOf cX6_bringOf 5 none 3 := ⟨q1769, q91, by decide, by decide, by decide +kernel⟩
set_option maxHeartbeats 4000000 in
theorem tX6_bringOf_52 (l : Launch) (w : Wd) (hfl : l.stackTraces = false) (F d : Nat) (r : Hp) (s0 : Nat) (s1 : Int32) (s2 : Int32) (k_s0 : nd_Kd s0 = 5) (h : Hp) (hf : fX6_bringOf_52 F d s0 s1 s2 h = some r) : nd_V l w yX6_bringOf cX6_bringOf 5 none 1 23 (.inl none, r) h 52 [] [vi s2, vi s1, vr (some s0)] := by
  unfold fX6_bringOf_52 at hf
  replace hf := cvE hf
  obtain ⟨h1, e_h1, hf⟩ := hf
  refine nd_Vv [] (tX6_bring l w hfl F d k_s0 e_h1) rfl dX6_bringOf_52 mw_X6_bring (Or.inl q1754) k_s0 rfl q1756 qs77 (by omega) (by omega) (Nat.le_of_ble_eq_true rfl) ?_
  cases hf
  exact nd_vret dX6_bringOf_55
set_option maxHeartbeats 4000000 in
theorem tX6_bringOf_17 (l : Launch) (w : Wd) (hfl : l.stackTraces = false) (F d : Nat) (r : Hp) (this : Nat) (x1 : Int32) (x2 : Int32) (x4 : Int32) (k_this : nd_Kd this = 5) (h : Hp) (hf : fX6_bringOf_17 F d this x1 x2 x4 h = some r) : nd_V l w yX6_bringOf cX6_bringOf 5 none 1 23 (.inl none, r) h 17 [(0, vr (some this)), (1, vi x1), (2, vi x2), (4, vi x4)] [] := by
  unfold fX6_bringOf_17 at hf
  refine nd_aload_n (j := 0) dX6_bringOf_17 rfl rfl ?_
  refine nd_iload_n (j := 1) dX6_bringOf_18 rfl rfl ?_
  refine nd_iload_n (j := 2) dX6_bringOf_19 rfl rfl ?_
  refine nd_isub dX6_bringOf_20 ?_
  refine nd_iload (j := 3) dX6_bringOf_21 rfl ?_
  refine nd_sipush (v := 255) dX6_bringOf_23 (by decide) ?_
  refine nd_icmp_ge (tgt := 37) dX6_bringOf_26 (by decide) (fun c1 => ?_) (fun c1 => ?_)
  · replace hf := ifp c1 hf
    refine nd_iload (j := 3) dX6_bringOf_37 rfl ?_
    refine nd_sipush (v := 255) dX6_bringOf_39 (by decide) ?_
    refine nd_icmp_ne (tgt := 50) dX6_bringOf_42 (by decide) (fun c2 => ?_) (fun c2 => ?_)
    · replace hf := ifn c2 hf
      refine nd_bipush (v := 16) dX6_bringOf_50 (by decide) ?_
      exact nd_loc [] rfl (tX6_bringOf_52 l w hfl F d r _ _ _ k_this _ hf)
    · replace hf := ifp c2 hf
      refine nd_bipush (v := 8) dX6_bringOf_45 (by decide) ?_
      refine nd_goto (tgt := 52) dX6_bringOf_47 (by decide) ?_
      exact nd_loc [] rfl (tX6_bringOf_52 l w hfl F d r _ _ _ k_this _ hf)
  · replace hf := ifn c1 hf
    refine nd_iload (j := 3) dX6_bringOf_29 rfl ?_
    replace hf := caE hf
    obtain ⟨v4, h3, e_h3, hf⟩ := hf
    refine nd_Si [vi (x1 - x2), vr (some this)] (tX6_width l w hfl F d e_h3) rfl dX6_bringOf_31 mw_X6_width (Or.inl q1687) q1688 (by omega) (by omega) (Nat.le_of_ble_eq_true rfl) ?_
    refine nd_goto (tgt := 52) dX6_bringOf_34 (by decide) ?_
    exact nd_loc [] rfl (tX6_bringOf_52 l w hfl F d r _ _ _ k_this _ hf)
set_option maxHeartbeats 4000000 in
theorem tX6_bringOf (l : Launch) (w : Wd) (hfl : l.stackTraces = false) (F d : Nat) {this : Nat} {p0 : Int32} {p1 : Int32} {p2 : Int32} (k_this : nd_Kd this = 5) {h : Hp} {r : Hp} (hf : fX6_bringOf F d this p0 p1 p2 h = some r) : nd_C l w yX6_bringOf cX6_bringOf 5 none 1 23 [vr (some this), vi p0, vi p1, vi p2] h (.inl none, r) := by
  refine nd_start (as := [vr (some this), vi p0, vi p1, vi p2]) hfl (by decide) (Nat.le_of_ble_eq_true rfl) ?_
  unfold fX6_bringOf at hf
  refine nd_eqL (L' := [(0, vr (some this)), (1, vi p0), (2, vi p1), (3, vi p2)]) rfl ?_
  refine nd_iload_n (j := 3) dX6_bringOf_0 rfl rfl ?_
  refine nd_iload_n (j := 2) dX6_bringOf_1 rfl rfl ?_
  refine nd_isub dX6_bringOf_2 ?_
  replace hf := bnE hf
  obtain ⟨v1, e_v1, hf⟩ := hf
  refine nd_top e_v1 ?_
  refine nd_istore [(4, vi v1), (0, vr (some this)), (1, vi p0), (2, vi p1), (3, vi p2)] dX6_bringOf_3 (Nat.le_of_ble_eq_true rfl) rfl ?_
  refine nd_iload (j := 0) dX6_bringOf_5 rfl ?_
  refine nd_sipush (v := 254) dX6_bringOf_7 (by decide) ?_
  refine nd_icmp_le (tgt := 17) dX6_bringOf_10 (by decide) (fun c2 => ?_) (fun c2 => ?_)
  · replace hf := ifp c2 hf
    exact nd_loc [1, 2, 3, 0] rfl (tX6_bringOf_17 l w hfl F d r _ _ _ _ k_this _ hf)
  · replace hf := ifn c2 hf
    refine nd_aload_n (j := 1) dX6_bringOf_13 rfl rfl ?_
    replace hf := cvE hf
    obtain ⟨h3, e_h3, hf⟩ := hf
    refine nd_Vv [] (tX6_fill l w hfl F d k_this e_h3) rfl dX6_bringOf_14 mw_X6_fill (Or.inl q1762) k_this rfl q1764 qs79 (by omega) (by omega) (Nat.le_of_ble_eq_true rfl) ?_
    exact nd_loc [1, 2, 3, 0] rfl (tX6_bringOf_17 l w hfl F d r _ _ _ _ k_this _ hf)
def fX6_bringCount_13 (F d : Nat) (this : Nat) (x1 : Int32) (x2 : Int32) (h : Hp) : Option (Hp) :=
  nn (gP h 618 this) fun a2 => (
  ck (inb x2 (nd_Ln a2)) (
  if (gA h a2 (Int32.toNatClampNeg x2)) = 0 then
  (cv (fX6_bring F d this x1 8 h) fun h5 => (
  some h5))
  else
  (nn (gP h 612 this) fun a8 => (
  ck (inb x2 (nd_Ln a8)) (
  nn (gP h 613 this) fun a11 => (
  ck (inb x2 (nd_Ln a11)) (
  cv (fX6_bringOf F d this x1 (gA h a8 (Int32.toNatClampNeg x2)) (gA h a11 (Int32.toNatClampNeg x2)) h) fun h13 => (
  some h13))))))))
def fX6_bringCount (F d : Nat) (this : Nat) (p0 : Int32) (p1 : Int32) (h : Hp) : Option (Hp) :=
  nn (gP h 618 this) fun a2 => (
  ck (inb p1 (nd_Ln a2)) (
  if (gA h a2 (Int32.toNatClampNeg p1)) = 0 then
  (cv (fX6_fill F d this h) fun h5 => (
  fX6_bringCount_13 F d this p0 p1 h5))
  else
  (fX6_bringCount_13 F d this p0 p1 h)))
theorem mw_X6_bringCount : nd_MW yX6_bringCount cX6_bringCount 3 none 2 := ⟨q1761, q91, by decide, by decide, by decide +kernel⟩
set_option maxHeartbeats 4000000 in
theorem tX6_bringCount_13 (l : Launch) (w : Wd) (hfl : l.stackTraces = false) (F d : Nat) (r : Hp) (this : Nat) (x1 : Int32) (x2 : Int32) (k_this : nd_Kd this = 5) (h : Hp) (hf : fX6_bringCount_13 F d this x1 x2 h = some r) : nd_V l w yX6_bringCount cX6_bringCount 3 none 2 47 (.inl none, r) h 13 [(0, vr (some this)), (1, vi x1), (2, vi x2)] [] := by
  unfold fX6_bringCount_13 at hf
  refine nd_aload_n (j := 0) dX6_bringCount_13 rfl rfl ?_
  refine nd_getP (k := 18) dX6_bringCount_14 k_this rfl (Nat.le_of_ble_eq_true rfl) (nd_flO q1358) rfl (fun ok1 => ?_)
  replace hf := nnE hf
  obtain ⟨a2, e_a2, hf⟩ := hf
  refine nd_topr e_a2.symm ?_
  have k_a2 : nd_Kd a2 = 22 := nd_c1 (ok1 a2 e_a2)
  refine nd_iload_n (j := 2) dX6_bringCount_17 rfl rfl ?_
  replace hf := ckE hf
  obtain ⟨c3, hf⟩ := hf
  refine nd_zald dX6_bringCount_18 k_a2 c3 ?_
  refine nd_if_eq (tgt := 42) dX6_bringCount_19 (by decide) (fun c4 => ?_) (fun c4 => ?_)
  · replace hf := ifp c4 hf
    refine nd_aload_n (j := 0) dX6_bringCount_42 rfl rfl ?_
    refine nd_iload_n (j := 1) dX6_bringCount_43 rfl rfl ?_
    refine nd_bipush (v := 8) dX6_bringCount_44 (by decide) ?_
    replace hf := cvE hf
    obtain ⟨h5, e_h5, hf⟩ := hf
    refine nd_Vv [] (tX6_bring l w hfl F d k_this e_h5) rfl dX6_bringCount_46 mw_X6_bring (Or.inl q1754) k_this rfl q1756 qs77 (by omega) (by omega) (Nat.le_of_ble_eq_true rfl) ?_
    cases hf
    exact nd_vret dX6_bringCount_49
  · replace hf := ifn c4 hf
    refine nd_aload_n (j := 0) dX6_bringCount_22 rfl rfl ?_
    refine nd_iload_n (j := 1) dX6_bringCount_23 rfl rfl ?_
    refine nd_aload_n (j := 0) dX6_bringCount_24 rfl rfl ?_
    refine nd_getP (k := 12) dX6_bringCount_25 k_this rfl (Nat.le_of_ble_eq_true rfl) (nd_flO q1352) rfl (fun ok7 => ?_)
    replace hf := nnE hf
    obtain ⟨a8, e_a8, hf⟩ := hf
    refine nd_topr e_a8.symm ?_
    have k_a8 : nd_Kd a8 = 20 := nd_c1 (ok7 a8 e_a8)
    refine nd_iload_n (j := 2) dX6_bringCount_28 rfl rfl ?_
    replace hf := ckE hf
    obtain ⟨c9, hf⟩ := hf
    refine nd_iald dX6_bringCount_29 k_a8 c9 ?_
    refine nd_aload_n (j := 0) dX6_bringCount_30 rfl rfl ?_
    refine nd_getP (k := 13) dX6_bringCount_31 k_this rfl (Nat.le_of_ble_eq_true rfl) (nd_flO q1353) rfl (fun ok10 => ?_)
    replace hf := nnE hf
    obtain ⟨a11, e_a11, hf⟩ := hf
    refine nd_topr e_a11.symm ?_
    have k_a11 : nd_Kd a11 = 20 := nd_c1 (ok10 a11 e_a11)
    refine nd_iload_n (j := 2) dX6_bringCount_34 rfl rfl ?_
    replace hf := ckE hf
    obtain ⟨c12, hf⟩ := hf
    refine nd_iald dX6_bringCount_35 k_a11 c12 ?_
    replace hf := cvE hf
    obtain ⟨h13, e_h13, hf⟩ := hf
    refine nd_Vv [] (tX6_bringOf l w hfl F d k_this e_h13) rfl dX6_bringCount_36 mw_X6_bringOf (Or.inl q1766) k_this rfl q1768 qs80 (by omega) (by omega) (Nat.le_of_ble_eq_true rfl) ?_
    refine nd_goto (tgt := 49) dX6_bringCount_39 (by decide) ?_
    cases hf
    exact nd_vret dX6_bringCount_49
set_option maxHeartbeats 4000000 in
theorem tX6_bringCount (l : Launch) (w : Wd) (hfl : l.stackTraces = false) (F d : Nat) {this : Nat} {p0 : Int32} {p1 : Int32} (k_this : nd_Kd this = 5) {h : Hp} {r : Hp} (hf : fX6_bringCount F d this p0 p1 h = some r) : nd_C l w yX6_bringCount cX6_bringCount 3 none 2 47 [vr (some this), vi p0, vi p1] h (.inl none, r) := by
  refine nd_start (as := [vr (some this), vi p0, vi p1]) hfl (by decide) (Nat.le_of_ble_eq_true rfl) ?_
  unfold fX6_bringCount at hf
  refine nd_eqL (L' := [(0, vr (some this)), (1, vi p0), (2, vi p1)]) rfl ?_
  refine nd_aload_n (j := 0) dX6_bringCount_0 rfl rfl ?_
  refine nd_getP (k := 18) dX6_bringCount_1 k_this rfl (Nat.le_of_ble_eq_true rfl) (nd_flO q1358) rfl (fun ok1 => ?_)
  replace hf := nnE hf
  obtain ⟨a2, e_a2, hf⟩ := hf
  refine nd_topr e_a2.symm ?_
  have k_a2 : nd_Kd a2 = 22 := nd_c1 (ok1 a2 e_a2)
  refine nd_iload_n (j := 2) dX6_bringCount_4 rfl rfl ?_
  replace hf := ckE hf
  obtain ⟨c3, hf⟩ := hf
  refine nd_zald dX6_bringCount_5 k_a2 c3 ?_
  refine nd_if_ne (tgt := 13) dX6_bringCount_6 (by decide) (fun c4 => ?_) (fun c4 => ?_)
  · replace hf := ifn c4 hf
    exact nd_loc [0, 1, 2] rfl (tX6_bringCount_13 l w hfl F d r _ _ _ k_this _ hf)
  · replace hf := ifp c4 hf
    refine nd_aload_n (j := 0) dX6_bringCount_9 rfl rfl ?_
    replace hf := cvE hf
    obtain ⟨h5, e_h5, hf⟩ := hf
    refine nd_Vv [] (tX6_fill l w hfl F d k_this e_h5) rfl dX6_bringCount_10 mw_X6_fill (Or.inl q1762) k_this rfl q1764 qs79 (by omega) (by omega) (Nat.le_of_ble_eq_true rfl) ?_
    exact nd_loc [0, 1, 2] rfl (tX6_bringCount_13 l w hfl F d r _ _ _ k_this _ hf)
def fX6_marks_102 (F d : Nat) (k_7 : Nat → Int32 → Int32 → Int32 → Int32 → Hp → Option (Hp)) (this : Nat) (x1 : Int32) (x2 : Int32) (x4 : Int32) (s0 : Int32) (s1 : Int32) (h : Hp) : Option (Hp) :=
  bn (s0 + s1) fun v1 => (
  bn (x4 + 1) fun v2 => (
  k_7 this x1 x2 v1 v2 h))
def fX6_marks_86 (F d : Nat) (k_7 : Nat → Int32 → Int32 → Int32 → Int32 → Hp → Option (Hp)) (this : Nat) (x1 : Int32) (x2 : Int32) (x3 : Int32) (x4 : Int32) (x5 : Int32) (h : Hp) : Option (Hp) :=
  if x5 = 0 then
  (fX6_marks_102 F d k_7 this x1 x2 x4 x3 0 h)
  else
  (nn (gP h 641 this) fun a3 => (
  ck (inb x3 (nd_Ln a3)) (
  fX6_marks_102 F d k_7 this x1 x2 x4 x3 (gA h a3 (Int32.toNatClampNeg x3)) h)))
def fX6_marks_82 (F d : Nat) (k_7 : Nat → Int32 → Int32 → Int32 → Int32 → Hp → Option (Hp)) (this : Nat) (x1 : Int32) (x2 : Int32) (x3 : Int32) (x4 : Int32) (x5 : Int32) (s0 : Nat) (s1 : Int32) (h : Hp) : Option (Hp) :=
  cv (fX6_bring F d s0 s1 1 h) fun h1 => (
  fX6_marks_86 F d k_7 this x1 x2 x3 x4 x5 h1)
def fX6_marks_81 (F d : Nat) (k_7 : Nat → Int32 → Int32 → Int32 → Int32 → Hp → Option (Hp)) (this : Nat) (x1 : Int32) (x2 : Int32) (x3 : Int32) (x4 : Int32) (x5 : Int32) (s0 : Nat) (h : Hp) : Option (Hp) :=
  fX6_marks_82 F d k_7 this x1 x2 x3 x4 x5 s0 0 h
def fX6_marks_46 (F d : Nat) (k_7 : Nat → Int32 → Int32 → Int32 → Int32 → Hp → Option (Hp)) (this : Nat) (x1 : Int32) (x2 : Int32) (x3 : Int32) (x4 : Int32) (s0 : Int32) (h : Hp) : Option (Hp) :=
  nn (gP h 621 this) fun a2 => (
  ck (inb ((6 * x2) + x4) (nd_Ln a2)) (
  if (gA h a2 (Int32.toNatClampNeg ((6 * x2) + x4))) = 0 then
  (fX6_marks_86 F d k_7 this x1 x2 x3 x4 s0 h)
  else
  (if s0 = 0 then
  (fX6_marks_81 F d k_7 this x1 x2 x3 x4 s0 this h)
  else
  (ca (fX6_isLeft F d this x3 h) fun v7 h6 => (
  if v7 = 0 then
  (fX6_marks_82 F d k_7 this x1 x2 x3 x4 s0 this 1 h6)
  else
  (fX6_marks_81 F d k_7 this x1 x2 x3 x4 s0 this h6))))))
def fX6_marks_45 (F d : Nat) (k_7 : Nat → Int32 → Int32 → Int32 → Int32 → Hp → Option (Hp)) (this : Nat) (x1 : Int32) (x2 : Int32) (x3 : Int32) (x4 : Int32) (h : Hp) : Option (Hp) :=
  fX6_marks_46 F d k_7 this x1 x2 x3 x4 0 h
def fX6_marks_7 (F d : Nat) : Nat → Nat → Int32 → Int32 → Int32 → Int32 → Hp → Option (Hp)
  | 0, _, _, _, _, _, _ => none
  | n + 1, this, x1, x2, x3, x4, h =>
    nn (gP h 615 this) fun a2 => (
    ck (inb x2 (nd_Ln a2)) (
    if (gA h a2 (Int32.toNatClampNeg x2)) ≤ x4 then
    (some h)
    else
    (nn (gP h 641 this) fun a6 => (
    ck (inb x1 (nd_Ln a6)) (
    if (x1 + (gA h a6 (Int32.toNatClampNeg x1))) ≤ x3 then
    (fX6_marks_45 F d (fX6_marks_7 F d n) this x1 x2 x3 x4 h)
    else
    (nn (gP h 638 this) fun a10 => (
    ck (inb x3 (nd_Ln a10)) (
    if (gA h a10 (Int32.toNatClampNeg x3)) = x4 then
    (fX6_marks_46 F d (fX6_marks_7 F d n) this x1 x2 x3 x4 1 h)
    else
    (fX6_marks_45 F d (fX6_marks_7 F d n) this x1 x2 x3 x4 h)))))))))
def fX6_marks (F d : Nat) (this : Nat) (p0 : Int32) (p1 : Int32) (h : Hp) : Option (Hp) :=
  bn (p0 + 1) fun v1 => (
  fX6_marks_7 F d F this p0 p1 v1 0 h)
theorem mw_X6_marks : nd_MW yX6_marks cX6_marks 6 none 2 := ⟨q1773, q91, by decide, by decide, by decide +kernel⟩
set_option maxHeartbeats 4000000 in
theorem tX6_marks_102 (l : Launch) (w : Wd) (hfl : l.stackTraces = false) (F d : Nat) (r : Hp) (k_7 : Nat → Int32 → Int32 → Int32 → Int32 → Hp → Option (Hp)) (hk_7 : ∀ (this : Nat) (x1 : Int32) (x2 : Int32) (x3 : Int32) (x4 : Int32) (k_this : nd_Kd this = 5) (h : Hp), k_7 this x1 x2 x3 x4 h = some r → nd_V l w yX6_marks cX6_marks 6 none 4 91 (.inl none, r) h 7 [(0, vr (some this)), (1, vi x1), (2, vi x2), (3, vi x3), (4, vi x4)] []) (this : Nat) (x1 : Int32) (x2 : Int32) (x4 : Int32) (s0 : Int32) (s1 : Int32) (k_this : nd_Kd this = 5) (h : Hp) (hf : fX6_marks_102 F d k_7 this x1 x2 x4 s0 s1 h = some r) : nd_V l w yX6_marks cX6_marks 6 none 4 91 (.inl none, r) h 102 [(0, vr (some this)), (1, vi x1), (2, vi x2), (4, vi x4)] [vi s1, vi s0] := by
  unfold fX6_marks_102 at hf
  refine nd_iadd dX6_marks_102 ?_
  replace hf := bnE hf
  obtain ⟨v1, e_v1, hf⟩ := hf
  refine nd_top e_v1 ?_
  refine nd_istore_n [(3, vi v1), (0, vr (some this)), (1, vi x1), (2, vi x2), (4, vi x4)] dX6_marks_103 rfl (Nat.le_of_ble_eq_true rfl) rfl ?_
  replace hf := bnE hf
  obtain ⟨v2, e_v2, hf⟩ := hf
  refine nd_iinc (v := v2) (j := 4) [(4, vi v2), (3, vi v1), (0, vr (some this)), (1, vi x1), (2, vi x2)] dX6_marks_104 rfl (by rw [e_v2]; rfl) (Nat.le_of_ble_eq_true rfl) rfl ?_
  refine nd_goto (tgt := 7) dX6_marks_107 (by decide) ?_
  exact nd_loc [2, 3, 4, 1, 0] rfl (hk_7 _ _ _ _ _ k_this _ hf)
set_option maxHeartbeats 4000000 in
theorem tX6_marks_86 (l : Launch) (w : Wd) (hfl : l.stackTraces = false) (F d : Nat) (r : Hp) (k_7 : Nat → Int32 → Int32 → Int32 → Int32 → Hp → Option (Hp)) (hk_7 : ∀ (this : Nat) (x1 : Int32) (x2 : Int32) (x3 : Int32) (x4 : Int32) (k_this : nd_Kd this = 5) (h : Hp), k_7 this x1 x2 x3 x4 h = some r → nd_V l w yX6_marks cX6_marks 6 none 4 91 (.inl none, r) h 7 [(0, vr (some this)), (1, vi x1), (2, vi x2), (3, vi x3), (4, vi x4)] []) (this : Nat) (x1 : Int32) (x2 : Int32) (x3 : Int32) (x4 : Int32) (x5 : Int32) (k_this : nd_Kd this = 5) (h : Hp) (hf : fX6_marks_86 F d k_7 this x1 x2 x3 x4 x5 h = some r) : nd_V l w yX6_marks cX6_marks 6 none 4 91 (.inl none, r) h 86 [(0, vr (some this)), (1, vi x1), (2, vi x2), (3, vi x3), (4, vi x4), (5, vi x5)] [] := by
  unfold fX6_marks_86 at hf
  refine nd_iload_n (j := 3) dX6_marks_86 rfl rfl ?_
  refine nd_iload (j := 5) dX6_marks_87 rfl ?_
  refine nd_if_eq (tgt := 101) dX6_marks_89 (by decide) (fun c1 => ?_) (fun c1 => ?_)
  · replace hf := ifp c1 hf
    refine nd_iconst (v := 0) dX6_marks_101 (by decide) ?_
    exact nd_loc [0, 1, 2, 4] rfl (tX6_marks_102 l w hfl F d r k_7 hk_7 _ _ _ _ _ _ k_this _ hf)
  · replace hf := ifn c1 hf
    refine nd_aload_n (j := 0) dX6_marks_92 rfl rfl ?_
    refine nd_getP (k := 41) dX6_marks_93 k_this rfl (Nat.le_of_ble_eq_true rfl) (nd_flO q1381) rfl (fun ok2 => ?_)
    replace hf := nnE hf
    obtain ⟨a3, e_a3, hf⟩ := hf
    refine nd_topr e_a3.symm ?_
    have k_a3 : nd_Kd a3 = 20 := nd_c1 (ok2 a3 e_a3)
    refine nd_iload_n (j := 3) dX6_marks_96 rfl rfl ?_
    replace hf := ckE hf
    obtain ⟨c4, hf⟩ := hf
    refine nd_iald dX6_marks_97 k_a3 c4 ?_
    refine nd_goto (tgt := 102) dX6_marks_98 (by decide) ?_
    exact nd_loc [0, 1, 2, 4] rfl (tX6_marks_102 l w hfl F d r k_7 hk_7 _ _ _ _ _ _ k_this _ hf)
set_option maxHeartbeats 4000000 in
theorem tX6_marks_82 (l : Launch) (w : Wd) (hfl : l.stackTraces = false) (F d : Nat) (r : Hp) (k_7 : Nat → Int32 → Int32 → Int32 → Int32 → Hp → Option (Hp)) (hk_7 : ∀ (this : Nat) (x1 : Int32) (x2 : Int32) (x3 : Int32) (x4 : Int32) (k_this : nd_Kd this = 5) (h : Hp), k_7 this x1 x2 x3 x4 h = some r → nd_V l w yX6_marks cX6_marks 6 none 4 91 (.inl none, r) h 7 [(0, vr (some this)), (1, vi x1), (2, vi x2), (3, vi x3), (4, vi x4)] []) (this : Nat) (x1 : Int32) (x2 : Int32) (x3 : Int32) (x4 : Int32) (x5 : Int32) (s0 : Nat) (s1 : Int32) (k_this : nd_Kd this = 5) (k_s0 : nd_Kd s0 = 5) (h : Hp) (hf : fX6_marks_82 F d k_7 this x1 x2 x3 x4 x5 s0 s1 h = some r) : nd_V l w yX6_marks cX6_marks 6 none 4 91 (.inl none, r) h 82 [(0, vr (some this)), (1, vi x1), (2, vi x2), (3, vi x3), (4, vi x4), (5, vi x5)] [vi s1, vr (some s0)] := by
  unfold fX6_marks_82 at hf
  refine nd_iconst (v := 1) dX6_marks_82 (by decide) ?_
  replace hf := cvE hf
  obtain ⟨h1, e_h1, hf⟩ := hf
  refine nd_Vv [] (tX6_bring l w hfl F d k_s0 e_h1) rfl dX6_marks_83 mw_X6_bring (Or.inl q1754) k_s0 rfl q1756 qs77 (by omega) (by omega) (Nat.le_of_ble_eq_true rfl) ?_
  exact nd_loc [0, 1, 2, 3, 4, 5] rfl (tX6_marks_86 l w hfl F d r k_7 hk_7 _ _ _ _ _ _ k_this _ hf)
set_option maxHeartbeats 4000000 in
theorem tX6_marks_81 (l : Launch) (w : Wd) (hfl : l.stackTraces = false) (F d : Nat) (r : Hp) (k_7 : Nat → Int32 → Int32 → Int32 → Int32 → Hp → Option (Hp)) (hk_7 : ∀ (this : Nat) (x1 : Int32) (x2 : Int32) (x3 : Int32) (x4 : Int32) (k_this : nd_Kd this = 5) (h : Hp), k_7 this x1 x2 x3 x4 h = some r → nd_V l w yX6_marks cX6_marks 6 none 4 91 (.inl none, r) h 7 [(0, vr (some this)), (1, vi x1), (2, vi x2), (3, vi x3), (4, vi x4)] []) (this : Nat) (x1 : Int32) (x2 : Int32) (x3 : Int32) (x4 : Int32) (x5 : Int32) (s0 : Nat) (k_this : nd_Kd this = 5) (k_s0 : nd_Kd s0 = 5) (h : Hp) (hf : fX6_marks_81 F d k_7 this x1 x2 x3 x4 x5 s0 h = some r) : nd_V l w yX6_marks cX6_marks 6 none 4 91 (.inl none, r) h 81 [(0, vr (some this)), (1, vi x1), (2, vi x2), (3, vi x3), (4, vi x4), (5, vi x5)] [vr (some s0)] := by
  unfold fX6_marks_81 at hf
  refine nd_iconst (v := 0) dX6_marks_81 (by decide) ?_
  exact nd_loc [0, 1, 2, 3, 4, 5] rfl (tX6_marks_82 l w hfl F d r k_7 hk_7 _ _ _ _ _ _ _ _ k_this k_s0 _ hf)
set_option maxHeartbeats 4000000 in
theorem tX6_marks_46 (l : Launch) (w : Wd) (hfl : l.stackTraces = false) (F d : Nat) (r : Hp) (k_7 : Nat → Int32 → Int32 → Int32 → Int32 → Hp → Option (Hp)) (hk_7 : ∀ (this : Nat) (x1 : Int32) (x2 : Int32) (x3 : Int32) (x4 : Int32) (k_this : nd_Kd this = 5) (h : Hp), k_7 this x1 x2 x3 x4 h = some r → nd_V l w yX6_marks cX6_marks 6 none 4 91 (.inl none, r) h 7 [(0, vr (some this)), (1, vi x1), (2, vi x2), (3, vi x3), (4, vi x4)] []) (this : Nat) (x1 : Int32) (x2 : Int32) (x3 : Int32) (x4 : Int32) (s0 : Int32) (k_this : nd_Kd this = 5) (h : Hp) (hf : fX6_marks_46 F d k_7 this x1 x2 x3 x4 s0 h = some r) : nd_V l w yX6_marks cX6_marks 6 none 4 91 (.inl none, r) h 46 [(0, vr (some this)), (1, vi x1), (2, vi x2), (3, vi x3), (4, vi x4)] [vi s0] := by
  unfold fX6_marks_46 at hf
  refine nd_istore [(5, vi s0), (0, vr (some this)), (1, vi x1), (2, vi x2), (3, vi x3), (4, vi x4)] dX6_marks_46 (Nat.le_of_ble_eq_true rfl) rfl ?_
  refine nd_aload_n (j := 1) dX6_marks_48 rfl rfl ?_
  refine nd_getP (k := 21) dX6_marks_49 k_this rfl (Nat.le_of_ble_eq_true rfl) (nd_flO q1361) rfl (fun ok1 => ?_)
  replace hf := nnE hf
  obtain ⟨a2, e_a2, hf⟩ := hf
  refine nd_topr e_a2.symm ?_
  have k_a2 : nd_Kd a2 = 20 := nd_c1 (ok1 a2 e_a2)
  refine nd_bipush (v := 6) dX6_marks_52 (by decide) ?_
  refine nd_iload_n (j := 3) dX6_marks_54 rfl rfl ?_
  refine nd_imul dX6_marks_55 ?_
  refine nd_iload (j := 5) dX6_marks_56 rfl ?_
  refine nd_iadd dX6_marks_58 ?_
  replace hf := ckE hf
  obtain ⟨c3, hf⟩ := hf
  refine nd_iald dX6_marks_59 k_a2 c3 ?_
  refine nd_if_eq (tgt := 86) dX6_marks_60 (by decide) (fun c4 => ?_) (fun c4 => ?_)
  · replace hf := ifp c4 hf
    exact nd_loc [1, 2, 3, 4, 5, 0] rfl (tX6_marks_86 l w hfl F d r k_7 hk_7 _ _ _ _ _ _ k_this _ hf)
  · replace hf := ifn c4 hf
    refine nd_aload_n (j := 1) dX6_marks_63 rfl rfl ?_
    refine nd_iload (j := 0) dX6_marks_64 rfl ?_
    refine nd_if_eq (tgt := 81) dX6_marks_66 (by decide) (fun c5 => ?_) (fun c5 => ?_)
    · replace hf := ifp c5 hf
      exact nd_loc [1, 2, 3, 4, 5, 0] rfl (tX6_marks_81 l w hfl F d r k_7 hk_7 _ _ _ _ _ _ _ k_this k_this _ hf)
    · replace hf := ifn c5 hf
      refine nd_aload_n (j := 1) dX6_marks_69 rfl rfl ?_
      refine nd_iload_n (j := 4) dX6_marks_70 rfl rfl ?_
      replace hf := caE hf
      obtain ⟨v7, h6, e_h6, hf⟩ := hf
      refine nd_Vi [vr (some this)] (tX6_isLeft l w hfl F d k_this e_h6) rfl dX6_marks_71 mw_X6_isLeft (Or.inl q1738) k_this rfl q1740 qs73 (by omega) (by omega) (Nat.le_of_ble_eq_true rfl) ?_
      refine nd_if_ne (tgt := 81) dX6_marks_74 (by decide) (fun c8 => ?_) (fun c8 => ?_)
      · replace hf := ifn c8 hf
        exact nd_loc [1, 2, 3, 4, 5, 0] rfl (tX6_marks_81 l w hfl F d r k_7 hk_7 _ _ _ _ _ _ _ k_this k_this _ hf)
      · replace hf := ifp c8 hf
        refine nd_iconst (v := 1) dX6_marks_77 (by decide) ?_
        refine nd_goto (tgt := 82) dX6_marks_78 (by decide) ?_
        exact nd_loc [1, 2, 3, 4, 5, 0] rfl (tX6_marks_82 l w hfl F d r k_7 hk_7 _ _ _ _ _ _ _ _ k_this k_this _ hf)
set_option maxHeartbeats 4000000 in
theorem tX6_marks_45 (l : Launch) (w : Wd) (hfl : l.stackTraces = false) (F d : Nat) (r : Hp) (k_7 : Nat → Int32 → Int32 → Int32 → Int32 → Hp → Option (Hp)) (hk_7 : ∀ (this : Nat) (x1 : Int32) (x2 : Int32) (x3 : Int32) (x4 : Int32) (k_this : nd_Kd this = 5) (h : Hp), k_7 this x1 x2 x3 x4 h = some r → nd_V l w yX6_marks cX6_marks 6 none 4 91 (.inl none, r) h 7 [(0, vr (some this)), (1, vi x1), (2, vi x2), (3, vi x3), (4, vi x4)] []) (this : Nat) (x1 : Int32) (x2 : Int32) (x3 : Int32) (x4 : Int32) (k_this : nd_Kd this = 5) (h : Hp) (hf : fX6_marks_45 F d k_7 this x1 x2 x3 x4 h = some r) : nd_V l w yX6_marks cX6_marks 6 none 4 91 (.inl none, r) h 45 [(0, vr (some this)), (1, vi x1), (2, vi x2), (3, vi x3), (4, vi x4)] [] := by
  unfold fX6_marks_45 at hf
  refine nd_iconst (v := 0) dX6_marks_45 (by decide) ?_
  exact nd_loc [0, 1, 2, 3, 4] rfl (tX6_marks_46 l w hfl F d r k_7 hk_7 _ _ _ _ _ _ k_this _ hf)
set_option maxHeartbeats 4000000 in
theorem tX6_marks_7 (l : Launch) (w : Wd) (hfl : l.stackTraces = false) (F d : Nat) (r : Hp) : ∀ (n : Nat) (this : Nat) (x1 : Int32) (x2 : Int32) (x3 : Int32) (x4 : Int32) (k_this : nd_Kd this = 5) (h : Hp), fX6_marks_7 F d n this x1 x2 x3 x4 h = some r → nd_V l w yX6_marks cX6_marks 6 none 4 91 (.inl none, r) h 7 [(0, vr (some this)), (1, vi x1), (2, vi x2), (3, vi x3), (4, vi x4)] [] := by
  intro n
  induction n with
  | zero => intro _ _ _ _ _ _ _ hf; cases hf
  | succ n ih =>
    intro this x1 x2 x3 x4 k_this h hf
    unfold fX6_marks_7 at hf
    refine nd_iload (j := 4) dX6_marks_7 rfl ?_
    refine nd_aload_n (j := 0) dX6_marks_9 rfl rfl ?_
    refine nd_getP (k := 15) dX6_marks_10 k_this rfl (Nat.le_of_ble_eq_true rfl) (nd_flO q1355) rfl (fun ok1 => ?_)
    replace hf := nnE hf
    obtain ⟨a2, e_a2, hf⟩ := hf
    refine nd_topr e_a2.symm ?_
    have k_a2 : nd_Kd a2 = 20 := nd_c1 (ok1 a2 e_a2)
    refine nd_iload_n (j := 2) dX6_marks_13 rfl rfl ?_
    replace hf := ckE hf
    obtain ⟨c3, hf⟩ := hf
    refine nd_iald dX6_marks_14 k_a2 c3 ?_
    refine nd_icmp_ge (tgt := 110) dX6_marks_15 (by decide) (fun c4 => ?_) (fun c4 => ?_)
    · replace hf := ifp c4 hf
      cases hf
      exact nd_vret dX6_marks_110
    · replace hf := ifn c4 hf
      refine nd_iload_n (j := 3) dX6_marks_18 rfl rfl ?_
      refine nd_iload_n (j := 1) dX6_marks_19 rfl rfl ?_
      refine nd_aload_n (j := 0) dX6_marks_20 rfl rfl ?_
      refine nd_getP (k := 41) dX6_marks_21 k_this rfl (Nat.le_of_ble_eq_true rfl) (nd_flO q1381) rfl (fun ok5 => ?_)
      replace hf := nnE hf
      obtain ⟨a6, e_a6, hf⟩ := hf
      refine nd_topr e_a6.symm ?_
      have k_a6 : nd_Kd a6 = 20 := nd_c1 (ok5 a6 e_a6)
      refine nd_iload_n (j := 1) dX6_marks_24 rfl rfl ?_
      replace hf := ckE hf
      obtain ⟨c7, hf⟩ := hf
      refine nd_iald dX6_marks_25 k_a6 c7 ?_
      refine nd_iadd dX6_marks_26 ?_
      refine nd_icmp_ge (tgt := 45) dX6_marks_27 (by decide) (fun c8 => ?_) (fun c8 => ?_)
      · replace hf := ifp c8 hf
        exact nd_loc [0, 1, 2, 3, 4] rfl (tX6_marks_45 l w hfl F d r (fX6_marks_7 F d n) ih _ _ _ _ _ k_this _ hf)
      · replace hf := ifn c8 hf
        refine nd_aload_n (j := 0) dX6_marks_30 rfl rfl ?_
        refine nd_getP (k := 38) dX6_marks_31 k_this rfl (Nat.le_of_ble_eq_true rfl) (nd_flO q1378) rfl (fun ok9 => ?_)
        replace hf := nnE hf
        obtain ⟨a10, e_a10, hf⟩ := hf
        refine nd_topr e_a10.symm ?_
        have k_a10 : nd_Kd a10 = 20 := nd_c1 (ok9 a10 e_a10)
        refine nd_iload_n (j := 3) dX6_marks_34 rfl rfl ?_
        replace hf := ckE hf
        obtain ⟨c11, hf⟩ := hf
        refine nd_iald dX6_marks_35 k_a10 c11 ?_
        refine nd_iload (j := 4) dX6_marks_36 rfl ?_
        refine nd_icmp_ne (tgt := 45) dX6_marks_38 (by decide) (fun c12 => ?_) (fun c12 => ?_)
        · replace hf := ifn c12 hf
          exact nd_loc [0, 1, 2, 3, 4] rfl (tX6_marks_45 l w hfl F d r (fX6_marks_7 F d n) ih _ _ _ _ _ k_this _ hf)
        · replace hf := ifp c12 hf
          refine nd_iconst (v := 1) dX6_marks_41 (by decide) ?_
          refine nd_goto (tgt := 46) dX6_marks_42 (by decide) ?_
          exact nd_loc [0, 1, 2, 3, 4] rfl (tX6_marks_46 l w hfl F d r (fX6_marks_7 F d n) ih _ _ _ _ _ _ k_this _ hf)
set_option maxHeartbeats 4000000 in
theorem tX6_marks (l : Launch) (w : Wd) (hfl : l.stackTraces = false) (F d : Nat) {this : Nat} {p0 : Int32} {p1 : Int32} (k_this : nd_Kd this = 5) {h : Hp} {r : Hp} (hf : fX6_marks F d this p0 p1 h = some r) : nd_C l w yX6_marks cX6_marks 6 none 4 91 [vr (some this), vi p0, vi p1] h (.inl none, r) := by
  refine nd_start (as := [vr (some this), vi p0, vi p1]) hfl (by decide) (Nat.le_of_ble_eq_true rfl) ?_
  unfold fX6_marks at hf
  refine nd_eqL (L' := [(0, vr (some this)), (1, vi p0), (2, vi p1)]) rfl ?_
  refine nd_iload_n (j := 1) dX6_marks_0 rfl rfl ?_
  refine nd_iconst (v := 1) dX6_marks_1 (by decide) ?_
  refine nd_iadd dX6_marks_2 ?_
  replace hf := bnE hf
  obtain ⟨v1, e_v1, hf⟩ := hf
  refine nd_top e_v1 ?_
  refine nd_istore_n [(3, vi v1), (0, vr (some this)), (1, vi p0), (2, vi p1)] dX6_marks_3 rfl (Nat.le_of_ble_eq_true rfl) rfl ?_
  refine nd_iconst (v := 0) dX6_marks_4 (by decide) ?_
  refine nd_istore [(4, vi 0), (3, vi v1), (0, vr (some this)), (1, vi p0), (2, vi p1)] dX6_marks_5 (Nat.le_of_ble_eq_true rfl) rfl ?_
  exact nd_loc [2, 3, 4, 1, 0] rfl (tX6_marks_7 l w hfl F d r F _ _ _ _ _ k_this _ hf)
def fX6_packed_225 (F d : Nat) (this : Nat) (x3 : Int32) (x4 : Int32) (h : Hp) : Option (Hp) :=
  if x3 = 5 then
  (some h)
  else
  (cv (fX6_fill F d this h) fun h2 => (
  ca (fX6_bytesOf F d x4 h2) fun v5 h4 => (
  cv (fX6_bring F d this v5 8 h4) fun h6 => (
  ca (fX6_bytesOf F d x4 h6) fun v9 h8 => (
  cv (fX6_bring F d this x4 (8 * v9) h8) fun h10 => (
  some h10))))))
def fX6_packed_94 (F d : Nat) : Nat → Nat → Int32 → Int32 → Int32 → Hp → Option (Hp)
  | 0, _, _, _, _, _ => none
  | n + 1, this, x1, x4, x5, h =>
    if x4 ≤ x5 then
    (some h)
    else
    (nn (gP h 643 this) fun a3 => (
    nn (gP h 640 this) fun a5 => (
    ck (inb x1 (nd_Ln a5)) (
    ck (inb ((gA h a5 (Int32.toNatClampNeg x1)) + x5) (nd_Ln a3)) (
    cv (fX6_bring F d this (gA h a3 (Int32.toNatClampNeg ((gA h a5 (Int32.toNatClampNeg x1)) + x5))) 8 h) fun h8 => (
    bn (x5 + 1) fun v10 => (
    fX6_packed_94 F d n this x1 x4 v10 h8)))))))
def fX6_packed_91 (F d : Nat) (this : Nat) (x1 : Int32) (x4 : Int32) (h : Hp) : Option (Hp) :=
  fX6_packed_94 F d F this x1 x4 0 h
def fX6_packed_87 (F d : Nat) (this : Nat) (x1 : Int32) (x4 : Int32) (h : Hp) : Option (Hp) :=
  cv (fX6_fill F d this h) fun h1 => (
  fX6_packed_91 F d this x1 x4 h1)
def fX6_packed (F d : Nat) (this : Nat) (p0 : Int32) (h : Hp) : Option (Hp) :=
  ca (fX6_baseOf F d this p0 h) fun v2 h1 => (
  nn (gP h1 611 this) fun a4 => (
  ck (inb v2 (nd_Ln a4)) (
  bn (gA h1 a4 (Int32.toNatClampNeg v2)) fun v6 => (
  nn (gP h1 637 this) fun a8 => (
  ck (inb p0 (nd_Ln a8)) (
  bn (gA h1 a8 (Int32.toNatClampNeg p0)) fun v10 => (
  if v6 = 1 then
  (cv (fX6_bring F d this v10 1 h1) fun h58 => (
  some h58))
  else
  (if v6 = 4 then
  (cv (fX6_bringCount F d this v10 v2 h1) fun h40 => (
  nn (gP h40 618 this) fun a43 => (
  ck (inb v2 (nd_Ln a43)) (
  if (gA h40 a43 (Int32.toNatClampNeg v2)) = 0 then
  (fX6_packed_91 F d this p0 v10 h40)
  else
  (if v10 ≤ 0 then
  (fX6_packed_91 F d this p0 v10 h40)
  else
  (nn (gP h40 612 this) fun a48 => (
  ck (inb v2 (nd_Ln a48)) (
  nn (gP h40 613 this) fun a51 => (
  ck (inb v2 (nd_Ln a51)) (
  if (gA h40 a48 (Int32.toNatClampNeg v2)) = (gA h40 a51 (Int32.toNatClampNeg v2)) then
  (nn (gP h40 613 this) fun a55 => (
  ck (inb v2 (nd_Ln a55)) (
  if (gA h40 a55 (Int32.toNatClampNeg v2)) ≤ 2 then
  (fX6_packed_91 F d this p0 v10 h40)
  else
  (fX6_packed_87 F d this p0 v10 h40))))
  else
  (fX6_packed_87 F d this p0 v10 h40)))))))))))
  else
  (if v6 = 7 then
  (cv (fX6_bringCount F d this v10 v2 h1) fun h38 => (
  some h38))
  else
  (if v6 = 9 then
  (ca (fX6_rank F d this v2 v10 h1) fun v32 h31 => (
  nn (gP h31 615 this) fun a34 => (
  ck (inb v2 (nd_Ln a34)) (
  cv (fX6_bringOf F d this v32 0 ((gA h31 a34 (Int32.toNatClampNeg v2)) - 1) h31) fun h36 => (
  some h36)))))
  else
  (if v6 = 6 then
  (cv (fX6_marks F d this p0 v2 h1) fun h29 => (
  some h29))
  else
  (if v6 = 5 then
  (fX6_packed_225 F d this v6 v10 h1)
  else
  (nn (gP h1 618 this) fun a18 => (
  ck (inb v2 (nd_Ln a18)) (
  if (gA h1 a18 (Int32.toNatClampNeg v2)) = 0 then
  (fX6_packed_225 F d this v6 v10 h1)
  else
  (nn (gP h1 612 this) fun a22 => (
  ck (inb v2 (nd_Ln a22)) (
  nn (gP h1 613 this) fun a25 => (
  ck (inb v2 (nd_Ln a25)) (
  cv (fX6_bringOf F d this v10 (gA h1 a22 (Int32.toNatClampNeg v2)) (gA h1 a25 (Int32.toNatClampNeg v2)) h1) fun h27 => (
  some h27)))))))))))))))))))))
theorem mw_X6_packed : nd_MW yX6_packed cX6_packed 6 none 1 := ⟨q1753, q91, by decide, by decide, by decide +kernel⟩
set_option maxHeartbeats 4000000 in
theorem tX6_packed_225 (l : Launch) (w : Wd) (hfl : l.stackTraces = false) (F d : Nat) (r : Hp) (this : Nat) (x3 : Int32) (x4 : Int32) (k_this : nd_Kd this = 5) (h : Hp) (hf : fX6_packed_225 F d this x3 x4 h = some r) : nd_V l w yX6_packed cX6_packed 6 none 5 116 (.inl none, r) h 225 [(0, vr (some this)), (3, vi x3), (4, vi x4)] [] := by
  unfold fX6_packed_225 at hf
  refine nd_iload_n (j := 1) dX6_packed_225 rfl rfl ?_
  refine nd_iconst (v := 5) dX6_packed_226 (by decide) ?_
  refine nd_icmp_eq (tgt := 259) dX6_packed_227 (by decide) (fun c1 => ?_) (fun c1 => ?_)
  · replace hf := ifp c1 hf
    cases hf
    exact nd_vret dX6_packed_259
  · replace hf := ifn c1 hf
    refine nd_aload_n (j := 0) dX6_packed_230 rfl rfl ?_
    replace hf := cvE hf
    obtain ⟨h2, e_h2, hf⟩ := hf
    refine nd_Vv [] (tX6_fill l w hfl F d k_this e_h2) rfl dX6_packed_231 mw_X6_fill (Or.inl q1762) k_this rfl q1764 qs79 (by omega) (by omega) (Nat.le_of_ble_eq_true rfl) ?_
    refine nd_aload_n (j := 0) dX6_packed_234 rfl rfl ?_
    refine nd_iload (j := 2) dX6_packed_235 rfl ?_
    replace hf := caE hf
    obtain ⟨v5, h4, e_h4, hf⟩ := hf
    refine nd_Si [vr (some this)] (tX6_bytesOf l w hfl F d e_h4) rfl dX6_packed_237 mw_X6_bytesOf (Or.inl q1670) q1671 (by omega) (by omega) (Nat.le_of_ble_eq_true rfl) ?_
    refine nd_bipush (v := 8) dX6_packed_240 (by decide) ?_
    replace hf := cvE hf
    obtain ⟨h6, e_h6, hf⟩ := hf
    refine nd_Vv [] (tX6_bring l w hfl F d k_this e_h6) rfl dX6_packed_242 mw_X6_bring (Or.inl q1754) k_this rfl q1756 qs77 (by omega) (by omega) (Nat.le_of_ble_eq_true rfl) ?_
    refine nd_aload_n (j := 0) dX6_packed_245 rfl rfl ?_
    refine nd_iload (j := 2) dX6_packed_246 rfl ?_
    refine nd_bipush (v := 8) dX6_packed_248 (by decide) ?_
    refine nd_iload (j := 2) dX6_packed_250 rfl ?_
    replace hf := caE hf
    obtain ⟨v9, h8, e_h8, hf⟩ := hf
    refine nd_Si [vi 8, vi x4, vr (some this)] (tX6_bytesOf l w hfl F d e_h8) rfl dX6_packed_252 mw_X6_bytesOf (Or.inl q1670) q1671 (by omega) (by omega) (Nat.le_of_ble_eq_true rfl) ?_
    refine nd_imul dX6_packed_255 ?_
    replace hf := cvE hf
    obtain ⟨h10, e_h10, hf⟩ := hf
    refine nd_Vv [] (tX6_bring l w hfl F d k_this e_h10) rfl dX6_packed_256 mw_X6_bring (Or.inl q1754) k_this rfl q1756 qs77 (by omega) (by omega) (Nat.le_of_ble_eq_true rfl) ?_
    cases hf
    exact nd_vret dX6_packed_259
set_option maxHeartbeats 4000000 in
theorem tX6_packed_94 (l : Launch) (w : Wd) (hfl : l.stackTraces = false) (F d : Nat) (r : Hp) : ∀ (n : Nat) (this : Nat) (x1 : Int32) (x4 : Int32) (x5 : Int32) (k_this : nd_Kd this = 5) (h : Hp), fX6_packed_94 F d n this x1 x4 x5 h = some r → nd_V l w yX6_packed cX6_packed 6 none 5 116 (.inl none, r) h 94 [(0, vr (some this)), (1, vi x1), (4, vi x4), (5, vi x5)] [] := by
  intro n
  induction n with
  | zero => intro _ _ _ _ _ _ hf; cases hf
  | succ n ih =>
    intro this x1 x4 x5 k_this h hf
    unfold fX6_packed_94 at hf
    refine nd_iload (j := 3) dX6_packed_94 rfl ?_
    refine nd_iload (j := 2) dX6_packed_96 rfl ?_
    refine nd_icmp_ge (tgt := 127) dX6_packed_98 (by decide) (fun c1 => ?_) (fun c1 => ?_)
    · replace hf := ifp c1 hf
      refine nd_goto (tgt := 259) dX6_packed_127 (by decide) ?_
      cases hf
      exact nd_vret dX6_packed_259
    · replace hf := ifn c1 hf
      refine nd_aload_n (j := 0) dX6_packed_101 rfl rfl ?_
      refine nd_aload_n (j := 0) dX6_packed_102 rfl rfl ?_
      refine nd_getP (k := 43) dX6_packed_103 k_this rfl (Nat.le_of_ble_eq_true rfl) (nd_flO q1383) rfl (fun ok2 => ?_)
      replace hf := nnE hf
      obtain ⟨a3, e_a3, hf⟩ := hf
      refine nd_topr e_a3.symm ?_
      have k_a3 : nd_Kd a3 = 20 := nd_c1 (ok2 a3 e_a3)
      refine nd_aload_n (j := 0) dX6_packed_106 rfl rfl ?_
      refine nd_getP (k := 40) dX6_packed_107 k_this rfl (Nat.le_of_ble_eq_true rfl) (nd_flO q1380) rfl (fun ok4 => ?_)
      replace hf := nnE hf
      obtain ⟨a5, e_a5, hf⟩ := hf
      refine nd_topr e_a5.symm ?_
      have k_a5 : nd_Kd a5 = 20 := nd_c1 (ok4 a5 e_a5)
      refine nd_iload_n (j := 1) dX6_packed_110 rfl rfl ?_
      replace hf := ckE hf
      obtain ⟨c6, hf⟩ := hf
      refine nd_iald dX6_packed_111 k_a5 c6 ?_
      refine nd_iload (j := 3) dX6_packed_112 rfl ?_
      refine nd_iadd dX6_packed_114 ?_
      replace hf := ckE hf
      obtain ⟨c7, hf⟩ := hf
      refine nd_iald dX6_packed_115 k_a3 c7 ?_
      refine nd_bipush (v := 8) dX6_packed_116 (by decide) ?_
      replace hf := cvE hf
      obtain ⟨h8, e_h8, hf⟩ := hf
      refine nd_Vv [] (tX6_bring l w hfl F d k_this e_h8) rfl dX6_packed_118 mw_X6_bring (Or.inl q1754) k_this rfl q1756 qs77 (by omega) (by omega) (Nat.le_of_ble_eq_true rfl) ?_
      replace hf := bnE hf
      obtain ⟨v10, e_v10, hf⟩ := hf
      refine nd_iinc (v := v10) (j := 3) [(5, vi v10), (0, vr (some this)), (1, vi x1), (4, vi x4)] dX6_packed_121 rfl (by rw [e_v10]; rfl) (Nat.le_of_ble_eq_true rfl) rfl ?_
      refine nd_goto (tgt := 94) dX6_packed_124 (by decide) ?_
      exact nd_loc [1, 2, 3, 0] rfl (ih _ _ _ _ k_this _ hf)
set_option maxHeartbeats 4000000 in
theorem tX6_packed_91 (l : Launch) (w : Wd) (hfl : l.stackTraces = false) (F d : Nat) (r : Hp) (this : Nat) (x1 : Int32) (x4 : Int32) (k_this : nd_Kd this = 5) (h : Hp) (hf : fX6_packed_91 F d this x1 x4 h = some r) : nd_V l w yX6_packed cX6_packed 6 none 5 116 (.inl none, r) h 91 [(0, vr (some this)), (1, vi x1), (4, vi x4)] [] := by
  unfold fX6_packed_91 at hf
  refine nd_iconst (v := 0) dX6_packed_91 (by decide) ?_
  refine nd_istore [(5, vi 0), (0, vr (some this)), (1, vi x1), (4, vi x4)] dX6_packed_92 (Nat.le_of_ble_eq_true rfl) rfl ?_
  exact nd_loc [1, 2, 3, 0] rfl (tX6_packed_94 l w hfl F d r F _ _ _ _ k_this _ hf)
set_option maxHeartbeats 4000000 in
theorem tX6_packed_87 (l : Launch) (w : Wd) (hfl : l.stackTraces = false) (F d : Nat) (r : Hp) (this : Nat) (x1 : Int32) (x4 : Int32) (k_this : nd_Kd this = 5) (h : Hp) (hf : fX6_packed_87 F d this x1 x4 h = some r) : nd_V l w yX6_packed cX6_packed 6 none 5 116 (.inl none, r) h 87 [(0, vr (some this)), (1, vi x1), (4, vi x4)] [] := by
  unfold fX6_packed_87 at hf
  refine nd_aload_n (j := 0) dX6_packed_87 rfl rfl ?_
  replace hf := cvE hf
  obtain ⟨h1, e_h1, hf⟩ := hf
  refine nd_Vv [] (tX6_fill l w hfl F d k_this e_h1) rfl dX6_packed_88 mw_X6_fill (Or.inl q1762) k_this rfl q1764 qs79 (by omega) (by omega) (Nat.le_of_ble_eq_true rfl) ?_
  exact nd_loc [0, 1, 2] rfl (tX6_packed_91 l w hfl F d r _ _ _ k_this _ hf)
set_option maxHeartbeats 4000000 in
theorem tX6_packed (l : Launch) (w : Wd) (hfl : l.stackTraces = false) (F d : Nat) {this : Nat} {p0 : Int32} (k_this : nd_Kd this = 5) {h : Hp} {r : Hp} (hf : fX6_packed F d this p0 h = some r) : nd_C l w yX6_packed cX6_packed 6 none 5 116 [vr (some this), vi p0] h (.inl none, r) := by
  refine nd_start (as := [vr (some this), vi p0]) hfl (by decide) (Nat.le_of_ble_eq_true rfl) ?_
  unfold fX6_packed at hf
  refine nd_eqL (L' := [(0, vr (some this)), (1, vi p0)]) rfl ?_
  refine nd_aload_n (j := 0) dX6_packed_0 rfl rfl ?_
  refine nd_iload_n (j := 1) dX6_packed_1 rfl rfl ?_
  replace hf := caE hf
  obtain ⟨v2, h1, e_h1, hf⟩ := hf
  refine nd_Vi [] (tX6_baseOf l w hfl F d k_this e_h1) rfl dX6_packed_2 mw_X6_baseOf (Or.inl q1714) k_this rfl q1716 qs67 (by omega) (by omega) (Nat.le_of_ble_eq_true rfl) ?_
  refine nd_istore_n [(2, vi v2), (0, vr (some this)), (1, vi p0)] dX6_packed_5 rfl (Nat.le_of_ble_eq_true rfl) rfl ?_
  refine nd_aload_n (j := 1) dX6_packed_6 rfl rfl ?_
  refine nd_getP (k := 11) dX6_packed_7 k_this rfl (Nat.le_of_ble_eq_true rfl) (nd_flO q1351) rfl (fun ok3 => ?_)
  replace hf := nnE hf
  obtain ⟨a4, e_a4, hf⟩ := hf
  refine nd_topr e_a4.symm ?_
  have k_a4 : nd_Kd a4 = 20 := nd_c1 (ok3 a4 e_a4)
  refine nd_iload_n (j := 0) dX6_packed_10 rfl rfl ?_
  replace hf := ckE hf
  obtain ⟨c5, hf⟩ := hf
  refine nd_iald dX6_packed_11 k_a4 c5 ?_
  replace hf := bnE hf
  obtain ⟨v6, e_v6, hf⟩ := hf
  refine nd_top e_v6 ?_
  refine nd_istore_n [(3, vi v6), (2, vi v2), (0, vr (some this)), (1, vi p0)] dX6_packed_12 rfl (Nat.le_of_ble_eq_true rfl) rfl ?_
  refine nd_aload_n (j := 2) dX6_packed_13 rfl rfl ?_
  refine nd_getP (k := 37) dX6_packed_14 k_this rfl (Nat.le_of_ble_eq_true rfl) (nd_flO q1377) rfl (fun ok7 => ?_)
  replace hf := nnE hf
  obtain ⟨a8, e_a8, hf⟩ := hf
  refine nd_topr e_a8.symm ?_
  have k_a8 : nd_Kd a8 = 20 := nd_c1 (ok7 a8 e_a8)
  refine nd_iload_n (j := 3) dX6_packed_17 rfl rfl ?_
  replace hf := ckE hf
  obtain ⟨c9, hf⟩ := hf
  refine nd_iald dX6_packed_18 k_a8 c9 ?_
  replace hf := bnE hf
  obtain ⟨v10, e_v10, hf⟩ := hf
  refine nd_top e_v10 ?_
  refine nd_istore [(4, vi v10), (3, vi v6), (2, vi v2), (0, vr (some this)), (1, vi p0)] dX6_packed_19 (Nat.le_of_ble_eq_true rfl) rfl ?_
  refine nd_iload_n (j := 1) dX6_packed_21 rfl rfl ?_
  refine nd_iconst (v := 1) dX6_packed_22 (by decide) ?_
  refine nd_icmp_ne (tgt := 36) dX6_packed_23 (by decide) (fun c11 => ?_) (fun c11 => ?_)
  · replace hf := ifn c11 hf
    refine nd_iload_n (j := 1) dX6_packed_36 rfl rfl ?_
    refine nd_iconst (v := 4) dX6_packed_37 (by decide) ?_
    refine nd_icmp_ne (tgt := 130) dX6_packed_38 (by decide) (fun c12 => ?_) (fun c12 => ?_)
    · replace hf := ifn c12 hf
      refine nd_iload_n (j := 1) dX6_packed_130 rfl rfl ?_
      refine nd_bipush (v := 7) dX6_packed_131 (by decide) ?_
      refine nd_icmp_ne (tgt := 146) dX6_packed_133 (by decide) (fun c13 => ?_) (fun c13 => ?_)
      · replace hf := ifn c13 hf
        refine nd_iload_n (j := 1) dX6_packed_146 rfl rfl ?_
        refine nd_bipush (v := 9) dX6_packed_147 (by decide) ?_
        refine nd_icmp_ne (tgt := 175) dX6_packed_149 (by decide) (fun c14 => ?_) (fun c14 => ?_)
        · replace hf := ifn c14 hf
          refine nd_iload_n (j := 1) dX6_packed_175 rfl rfl ?_
          refine nd_bipush (v := 6) dX6_packed_176 (by decide) ?_
          refine nd_icmp_ne (tgt := 190) dX6_packed_178 (by decide) (fun c15 => ?_) (fun c15 => ?_)
          · replace hf := ifn c15 hf
            refine nd_iload_n (j := 1) dX6_packed_190 rfl rfl ?_
            refine nd_iconst (v := 5) dX6_packed_191 (by decide) ?_
            refine nd_icmp_eq (tgt := 225) dX6_packed_192 (by decide) (fun c16 => ?_) (fun c16 => ?_)
            · replace hf := ifp c16 hf
              exact nd_loc [3, 1, 0] rfl (tX6_packed_225 l w hfl F d r _ _ _ k_this _ hf)
            · replace hf := ifn c16 hf
              refine nd_aload_n (j := 3) dX6_packed_195 rfl rfl ?_
              refine nd_getP (k := 18) dX6_packed_196 k_this rfl (Nat.le_of_ble_eq_true rfl) (nd_flO q1358) rfl (fun ok17 => ?_)
              replace hf := nnE hf
              obtain ⟨a18, e_a18, hf⟩ := hf
              refine nd_topr e_a18.symm ?_
              have k_a18 : nd_Kd a18 = 22 := nd_c1 (ok17 a18 e_a18)
              refine nd_iload_n (j := 2) dX6_packed_199 rfl rfl ?_
              replace hf := ckE hf
              obtain ⟨c19, hf⟩ := hf
              refine nd_zald dX6_packed_200 k_a18 c19 ?_
              refine nd_if_eq (tgt := 225) dX6_packed_201 (by decide) (fun c20 => ?_) (fun c20 => ?_)
              · replace hf := ifp c20 hf
                exact nd_loc [3, 1, 0] rfl (tX6_packed_225 l w hfl F d r _ _ _ k_this _ hf)
              · replace hf := ifn c20 hf
                refine nd_aload_n (j := 3) dX6_packed_204 rfl rfl ?_
                refine nd_iload (j := 0) dX6_packed_205 rfl ?_
                refine nd_aload_n (j := 3) dX6_packed_207 rfl rfl ?_
                refine nd_getP (k := 12) dX6_packed_208 k_this rfl (Nat.le_of_ble_eq_true rfl) (nd_flO q1352) rfl (fun ok21 => ?_)
                replace hf := nnE hf
                obtain ⟨a22, e_a22, hf⟩ := hf
                refine nd_topr e_a22.symm ?_
                have k_a22 : nd_Kd a22 = 20 := nd_c1 (ok21 a22 e_a22)
                refine nd_iload_n (j := 2) dX6_packed_211 rfl rfl ?_
                replace hf := ckE hf
                obtain ⟨c23, hf⟩ := hf
                refine nd_iald dX6_packed_212 k_a22 c23 ?_
                refine nd_aload_n (j := 3) dX6_packed_213 rfl rfl ?_
                refine nd_getP (k := 13) dX6_packed_214 k_this rfl (Nat.le_of_ble_eq_true rfl) (nd_flO q1353) rfl (fun ok24 => ?_)
                replace hf := nnE hf
                obtain ⟨a25, e_a25, hf⟩ := hf
                refine nd_topr e_a25.symm ?_
                have k_a25 : nd_Kd a25 = 20 := nd_c1 (ok24 a25 e_a25)
                refine nd_iload_n (j := 2) dX6_packed_217 rfl rfl ?_
                replace hf := ckE hf
                obtain ⟨c26, hf⟩ := hf
                refine nd_iald dX6_packed_218 k_a25 c26 ?_
                replace hf := cvE hf
                obtain ⟨h27, e_h27, hf⟩ := hf
                refine nd_Vv [] (tX6_bringOf l w hfl F d k_this e_h27) rfl dX6_packed_219 mw_X6_bringOf (Or.inl q1766) k_this rfl q1768 qs80 (by omega) (by omega) (Nat.le_of_ble_eq_true rfl) ?_
                refine nd_goto (tgt := 259) dX6_packed_222 (by decide) ?_
                cases hf
                exact nd_vret dX6_packed_259
          · replace hf := ifp c15 hf
            refine nd_aload_n (j := 3) dX6_packed_181 rfl rfl ?_
            refine nd_iload_n (j := 4) dX6_packed_182 rfl rfl ?_
            refine nd_iload_n (j := 2) dX6_packed_183 rfl rfl ?_
            replace hf := cvE hf
            obtain ⟨h29, e_h29, hf⟩ := hf
            refine nd_Vv [] (tX6_marks l w hfl F d k_this e_h29) rfl dX6_packed_184 mw_X6_marks (Or.inl q1770) k_this rfl q1772 qs81 (by omega) (by omega) (Nat.le_of_ble_eq_true rfl) ?_
            refine nd_goto (tgt := 259) dX6_packed_187 (by decide) ?_
            cases hf
            exact nd_vret dX6_packed_259
        · replace hf := ifp c14 hf
          refine nd_aload_n (j := 3) dX6_packed_152 rfl rfl ?_
          refine nd_aload_n (j := 3) dX6_packed_153 rfl rfl ?_
          refine nd_iload_n (j := 2) dX6_packed_154 rfl rfl ?_
          refine nd_iload (j := 0) dX6_packed_155 rfl ?_
          replace hf := caE hf
          obtain ⟨v32, h31, e_h31, hf⟩ := hf
          refine nd_Vi [vr (some this)] (tX6_rank l w hfl F d k_this e_h31) rfl dX6_packed_157 mw_X6_rank (Or.inl q1698) k_this rfl q1700 qs63 (by omega) (by omega) (Nat.le_of_ble_eq_true rfl) ?_
          refine nd_iconst (v := 0) dX6_packed_160 (by decide) ?_
          refine nd_aload_n (j := 3) dX6_packed_161 rfl rfl ?_
          refine nd_getP (k := 15) dX6_packed_162 k_this rfl (Nat.le_of_ble_eq_true rfl) (nd_flO q1355) rfl (fun ok33 => ?_)
          replace hf := nnE hf
          obtain ⟨a34, e_a34, hf⟩ := hf
          refine nd_topr e_a34.symm ?_
          have k_a34 : nd_Kd a34 = 20 := nd_c1 (ok33 a34 e_a34)
          refine nd_iload_n (j := 2) dX6_packed_165 rfl rfl ?_
          replace hf := ckE hf
          obtain ⟨c35, hf⟩ := hf
          refine nd_iald dX6_packed_166 k_a34 c35 ?_
          refine nd_iconst (v := 1) dX6_packed_167 (by decide) ?_
          refine nd_isub dX6_packed_168 ?_
          replace hf := cvE hf
          obtain ⟨h36, e_h36, hf⟩ := hf
          refine nd_Vv [] (tX6_bringOf l w hfl F d k_this e_h36) rfl dX6_packed_169 mw_X6_bringOf (Or.inl q1766) k_this rfl q1768 qs80 (by omega) (by omega) (Nat.le_of_ble_eq_true rfl) ?_
          refine nd_goto (tgt := 259) dX6_packed_172 (by decide) ?_
          cases hf
          exact nd_vret dX6_packed_259
      · replace hf := ifp c13 hf
        refine nd_aload_n (j := 3) dX6_packed_136 rfl rfl ?_
        refine nd_iload (j := 0) dX6_packed_137 rfl ?_
        refine nd_iload_n (j := 2) dX6_packed_139 rfl rfl ?_
        replace hf := cvE hf
        obtain ⟨h38, e_h38, hf⟩ := hf
        refine nd_Vv [] (tX6_bringCount l w hfl F d k_this e_h38) rfl dX6_packed_140 mw_X6_bringCount (Or.inl q1758) k_this rfl q1760 qs78 (by omega) (by omega) (Nat.le_of_ble_eq_true rfl) ?_
        refine nd_goto (tgt := 259) dX6_packed_143 (by decide) ?_
        cases hf
        exact nd_vret dX6_packed_259
    · replace hf := ifp c12 hf
      refine nd_aload_n (j := 3) dX6_packed_41 rfl rfl ?_
      refine nd_iload (j := 0) dX6_packed_42 rfl ?_
      refine nd_iload_n (j := 2) dX6_packed_44 rfl rfl ?_
      replace hf := cvE hf
      obtain ⟨h40, e_h40, hf⟩ := hf
      refine nd_Vv [] (tX6_bringCount l w hfl F d k_this e_h40) rfl dX6_packed_45 mw_X6_bringCount (Or.inl q1758) k_this rfl q1760 qs78 (by omega) (by omega) (Nat.le_of_ble_eq_true rfl) ?_
      refine nd_aload_n (j := 3) dX6_packed_48 rfl rfl ?_
      refine nd_getP (k := 18) dX6_packed_49 k_this rfl (Nat.le_of_ble_eq_true rfl) (nd_flO q1358) rfl (fun ok42 => ?_)
      replace hf := nnE hf
      obtain ⟨a43, e_a43, hf⟩ := hf
      refine nd_topr e_a43.symm ?_
      have k_a43 : nd_Kd a43 = 22 := nd_c1 (ok42 a43 e_a43)
      refine nd_iload_n (j := 2) dX6_packed_52 rfl rfl ?_
      replace hf := ckE hf
      obtain ⟨c44, hf⟩ := hf
      refine nd_zald dX6_packed_53 k_a43 c44 ?_
      refine nd_if_eq (tgt := 91) dX6_packed_54 (by decide) (fun c45 => ?_) (fun c45 => ?_)
      · replace hf := ifp c45 hf
        exact nd_loc [3, 4, 0] rfl (tX6_packed_91 l w hfl F d r _ _ _ k_this _ hf)
      · replace hf := ifn c45 hf
        refine nd_iload (j := 0) dX6_packed_57 rfl ?_
        refine nd_if_le (tgt := 91) dX6_packed_59 (by decide) (fun c46 => ?_) (fun c46 => ?_)
        · replace hf := ifp c46 hf
          exact nd_loc [3, 4, 0] rfl (tX6_packed_91 l w hfl F d r _ _ _ k_this _ hf)
        · replace hf := ifn c46 hf
          refine nd_aload_n (j := 3) dX6_packed_62 rfl rfl ?_
          refine nd_getP (k := 12) dX6_packed_63 k_this rfl (Nat.le_of_ble_eq_true rfl) (nd_flO q1352) rfl (fun ok47 => ?_)
          replace hf := nnE hf
          obtain ⟨a48, e_a48, hf⟩ := hf
          refine nd_topr e_a48.symm ?_
          have k_a48 : nd_Kd a48 = 20 := nd_c1 (ok47 a48 e_a48)
          refine nd_iload_n (j := 2) dX6_packed_66 rfl rfl ?_
          replace hf := ckE hf
          obtain ⟨c49, hf⟩ := hf
          refine nd_iald dX6_packed_67 k_a48 c49 ?_
          refine nd_aload_n (j := 3) dX6_packed_68 rfl rfl ?_
          refine nd_getP (k := 13) dX6_packed_69 k_this rfl (Nat.le_of_ble_eq_true rfl) (nd_flO q1353) rfl (fun ok50 => ?_)
          replace hf := nnE hf
          obtain ⟨a51, e_a51, hf⟩ := hf
          refine nd_topr e_a51.symm ?_
          have k_a51 : nd_Kd a51 = 20 := nd_c1 (ok50 a51 e_a51)
          refine nd_iload_n (j := 2) dX6_packed_72 rfl rfl ?_
          replace hf := ckE hf
          obtain ⟨c52, hf⟩ := hf
          refine nd_iald dX6_packed_73 k_a51 c52 ?_
          refine nd_icmp_ne (tgt := 87) dX6_packed_74 (by decide) (fun c53 => ?_) (fun c53 => ?_)
          · replace hf := ifn c53 hf
            exact nd_loc [3, 4, 0] rfl (tX6_packed_87 l w hfl F d r _ _ _ k_this _ hf)
          · replace hf := ifp c53 hf
            refine nd_aload_n (j := 3) dX6_packed_77 rfl rfl ?_
            refine nd_getP (k := 13) dX6_packed_78 k_this rfl (Nat.le_of_ble_eq_true rfl) (nd_flO q1353) rfl (fun ok54 => ?_)
            replace hf := nnE hf
            obtain ⟨a55, e_a55, hf⟩ := hf
            refine nd_topr e_a55.symm ?_
            have k_a55 : nd_Kd a55 = 20 := nd_c1 (ok54 a55 e_a55)
            refine nd_iload_n (j := 2) dX6_packed_81 rfl rfl ?_
            replace hf := ckE hf
            obtain ⟨c56, hf⟩ := hf
            refine nd_iald dX6_packed_82 k_a55 c56 ?_
            refine nd_iconst (v := 2) dX6_packed_83 (by decide) ?_
            refine nd_icmp_le (tgt := 91) dX6_packed_84 (by decide) (fun c57 => ?_) (fun c57 => ?_)
            · replace hf := ifp c57 hf
              exact nd_loc [3, 4, 0] rfl (tX6_packed_91 l w hfl F d r _ _ _ k_this _ hf)
            · replace hf := ifn c57 hf
              exact nd_loc [3, 4, 0] rfl (tX6_packed_87 l w hfl F d r _ _ _ k_this _ hf)
  · replace hf := ifp c11 hf
    refine nd_aload_n (j := 3) dX6_packed_26 rfl rfl ?_
    refine nd_iload (j := 0) dX6_packed_27 rfl ?_
    refine nd_iconst (v := 1) dX6_packed_29 (by decide) ?_
    replace hf := cvE hf
    obtain ⟨h58, e_h58, hf⟩ := hf
    refine nd_Vv [] (tX6_bring l w hfl F d k_this e_h58) rfl dX6_packed_30 mw_X6_bring (Or.inl q1754) k_this rfl q1756 qs77 (by omega) (by omega) (Nat.le_of_ble_eq_true rfl) ?_
    refine nd_goto (tgt := 259) dX6_packed_33 (by decide) ?_
    cases hf
    exact nd_vret dX6_packed_259
def fX6_write_166 (F d : Nat) (this : Nat) (h : Hp) : Option (Hp) :=
  bn (sI h 629 this (((gI h 630 this) + 7) / 8)) fun h1 => (
  some h1)
def fX6_write_146 (F d : Nat) (k_125 : Nat → Int32 → Hp → Option (Hp)) (this : Nat) (x2 : Int32) (h : Hp) : Option (Hp) :=
  bn (x2 + 1) fun v1 => (
  k_125 this v1 h)
def fX6_write_125 (F d : Nat) : Nat → Nat → Int32 → Hp → Option (Hp)
  | 0, _, _, _ => none
  | n + 1, this, x2, h =>
    if (gI h 634 this) ≤ x2 then
    (if (gI h 630 this) = 0 then
    (cv (fX6_bring F d this 0 8 h) fun h3 => (
    fX6_write_166 F d this h3))
    else
    (fX6_write_166 F d this h))
    else
    (ca (fX6_isLeft F d this x2 h) fun v6 h5 => (
    if v6 = 0 then
    (cv (fX6_packed F d this x2 h5) fun h8 => (
    fX6_write_146 F d (fX6_write_125 F d n) this x2 h8))
    else
    (fX6_write_146 F d (fX6_write_125 F d n) this x2 h5)))
def fX6_write_75 (F d : Nat) : Nat → Nat → Int32 → Int32 → Hp → Option (Hp)
  | 0, _, _, _, _ => none
  | n + 1, this, x1, x2, h =>
    if 4000 ≤ x2 then
    (bn (sI h 629 this (4000 - (gI h 629 this))) fun h2 => (
    if x1 = 1 then
    (some h2)
    else
    (fX6_write_125 F d F this 0 h2)))
    else
    (nn (gP h 633 this) fun a5 => (
    nn (gP h 633 this) fun a7 => (
    ck (inb x2 (nd_Ln a7)) (
    ck (inb (x2 - (gI h 629 this)) (nd_Ln a5)) (
    bn (sA h a5 (Int32.toNatClampNeg (x2 - (gI h 629 this))) (gA h a7 (Int32.toNatClampNeg x2))) fun h10 => (
    bn (x2 + 1) fun v11 => (
    fX6_write_75 F d n this x1 v11 h10)))))))
def fX6_write_70 (F d : Nat) (this : Nat) (x1 : Int32) (h : Hp) : Option (Hp) :=
  bn (gI h 629 this) fun v1 => (
  fX6_write_75 F d F this x1 v1 h)
def fX6_write_54 (F d : Nat) (k_32 : Nat → Int32 → Int32 → Hp → Option (Hp)) (this : Nat) (x1 : Int32) (x2 : Int32) (h : Hp) : Option (Hp) :=
  nn (gP h 642 this) fun a2 => (
  ck (inb x2 (nd_Ln a2)) (
  bn (sA h a2 (Int32.toNatClampNeg x2) (gI h 629 this)) fun h4 => (
  bn (x2 + (-1)) fun v5 => (
  k_32 this x1 v5 h4))))
def fX6_write_32 (F d : Nat) : Nat → Nat → Int32 → Int32 → Hp → Option (Hp)
  | 0, _, _, _, _ => none
  | n + 1, this, x1, x2, h =>
    if x2 < 0 then
    (fX6_write_70 F d this x1 h)
    else
    (if x1 = 1 then
    (ca (fX6_isLeft F d this x2 h) fun v4 h3 => (
    if v4 = 0 then
    (cv (fX6_encode F d this x2 h3) fun h6 => (
    fX6_write_54 F d (fX6_write_32 F d n) this x1 x2 h6))
    else
    (fX6_write_54 F d (fX6_write_32 F d n) this x1 x2 h3)))
    else
    (fX6_write_70 F d this x1 h))
def fX6_write (F d : Nat) (this : Nat) (p0 : Int32) (h : Hp) : Option (Hp) :=
  bn (sI h 630 this 0) fun h1 => (
  bn (sI h1 629 this 4000) fun h2 => (
  nn (gP h2 642 this) fun a4 => (
  ck (inb (gI h2 634 this) (nd_Ln a4)) (
  bn (sA h2 a4 (Int32.toNatClampNeg (gI h2 634 this)) (gI h2 629 this)) fun h6 => (
  bn ((gI h6 634 this) - 1) fun v7 => (
  fX6_write_32 F d F this p0 v7 h6))))))
theorem mw_X6_write : nd_MW yX6_write cX6_write 3 none 1 := ⟨q1737, q91, by decide, by decide, by decide +kernel⟩
set_option maxHeartbeats 4000000 in
theorem tX6_write_166 (l : Launch) (w : Wd) (hfl : l.stackTraces = false) (F d : Nat) (r : Hp) (this : Nat) (k_this : nd_Kd this = 5) (h : Hp) (hf : fX6_write_166 F d this h = some r) : nd_V l w yX6_write cX6_write 3 none 6 141 (.inl none, r) h 166 [(0, vr (some this))] [] := by
  unfold fX6_write_166 at hf
  refine nd_aload_n (j := 0) dX6_write_166 rfl rfl ?_
  refine nd_aload_n (j := 0) dX6_write_167 rfl rfl ?_
  refine nd_getI (k := 30) dX6_write_168 k_this rfl (Nat.le_of_ble_eq_true rfl) (nd_flO q1370) rfl ?_
  refine nd_bipush (v := 7) dX6_write_171 (by decide) ?_
  refine nd_iadd dX6_write_173 ?_
  refine nd_bipush (v := 8) dX6_write_174 (by decide) ?_
  refine nd_idiv dX6_write_176 (by decide) ?_
  refine nd_putN (k := 29) dX6_write_177 k_this rfl (Nat.le_of_ble_eq_true rfl) (nd_flO q1369) rfl rfl rfl ?_
  replace hf := bnE hf
  obtain ⟨h1, e_h1, hf⟩ := hf
  refine nd_hp e_h1 ?_
  cases hf
  exact nd_vret dX6_write_180
set_option maxHeartbeats 4000000 in
theorem tX6_write_146 (l : Launch) (w : Wd) (hfl : l.stackTraces = false) (F d : Nat) (r : Hp) (k_125 : Nat → Int32 → Hp → Option (Hp)) (hk_125 : ∀ (this : Nat) (x2 : Int32) (k_this : nd_Kd this = 5) (h : Hp), k_125 this x2 h = some r → nd_V l w yX6_write cX6_write 3 none 6 141 (.inl none, r) h 125 [(0, vr (some this)), (2, vi x2)] []) (this : Nat) (x2 : Int32) (k_this : nd_Kd this = 5) (h : Hp) (hf : fX6_write_146 F d k_125 this x2 h = some r) : nd_V l w yX6_write cX6_write 3 none 6 141 (.inl none, r) h 146 [(0, vr (some this)), (2, vi x2)] [] := by
  unfold fX6_write_146 at hf
  replace hf := bnE hf
  obtain ⟨v1, e_v1, hf⟩ := hf
  refine nd_iinc (v := v1) (j := 1) [(2, vi v1), (0, vr (some this))] dX6_write_146 rfl (by rw [e_v1]; rfl) (Nat.le_of_ble_eq_true rfl) rfl ?_
  refine nd_goto (tgt := 125) dX6_write_149 (by decide) ?_
  exact nd_loc [1, 0] rfl (hk_125 _ _ k_this _ hf)
set_option maxHeartbeats 4000000 in
theorem tX6_write_125 (l : Launch) (w : Wd) (hfl : l.stackTraces = false) (F d : Nat) (r : Hp) : ∀ (n : Nat) (this : Nat) (x2 : Int32) (k_this : nd_Kd this = 5) (h : Hp), fX6_write_125 F d n this x2 h = some r → nd_V l w yX6_write cX6_write 3 none 6 141 (.inl none, r) h 125 [(0, vr (some this)), (2, vi x2)] [] := by
  intro n
  induction n with
  | zero => intro _ _ _ _ hf; cases hf
  | succ n ih =>
    intro this x2 k_this h hf
    unfold fX6_write_125 at hf
    refine nd_iload_n (j := 1) dX6_write_125 rfl rfl ?_
    refine nd_aload_n (j := 0) dX6_write_126 rfl rfl ?_
    refine nd_getI (k := 34) dX6_write_127 k_this rfl (Nat.le_of_ble_eq_true rfl) (nd_flO q1374) rfl ?_
    refine nd_icmp_ge (tgt := 152) dX6_write_130 (by decide) (fun c1 => ?_) (fun c1 => ?_)
    · replace hf := ifp c1 hf
      refine nd_aload_n (j := 0) dX6_write_152 rfl rfl ?_
      refine nd_getI (k := 30) dX6_write_153 k_this rfl (Nat.le_of_ble_eq_true rfl) (nd_flO q1370) rfl ?_
      refine nd_if_ne (tgt := 166) dX6_write_156 (by decide) (fun c2 => ?_) (fun c2 => ?_)
      · replace hf := ifn c2 hf
        exact nd_loc [0] rfl (tX6_write_166 l w hfl F d r _ k_this _ hf)
      · replace hf := ifp c2 hf
        refine nd_aload_n (j := 0) dX6_write_159 rfl rfl ?_
        refine nd_iconst (v := 0) dX6_write_160 (by decide) ?_
        refine nd_bipush (v := 8) dX6_write_161 (by decide) ?_
        replace hf := cvE hf
        obtain ⟨h3, e_h3, hf⟩ := hf
        refine nd_Vv [] (tX6_bring l w hfl F d k_this e_h3) rfl dX6_write_163 mw_X6_bring (Or.inl q1754) k_this rfl q1756 qs77 (by omega) (by omega) (Nat.le_of_ble_eq_true rfl) ?_
        exact nd_loc [0] rfl (tX6_write_166 l w hfl F d r _ k_this _ hf)
    · replace hf := ifn c1 hf
      refine nd_aload_n (j := 0) dX6_write_133 rfl rfl ?_
      refine nd_iload_n (j := 1) dX6_write_134 rfl rfl ?_
      replace hf := caE hf
      obtain ⟨v6, h5, e_h5, hf⟩ := hf
      refine nd_Vi [] (tX6_isLeft l w hfl F d k_this e_h5) rfl dX6_write_135 mw_X6_isLeft (Or.inl q1738) k_this rfl q1740 qs73 (by omega) (by omega) (Nat.le_of_ble_eq_true rfl) ?_
      refine nd_if_ne (tgt := 146) dX6_write_138 (by decide) (fun c7 => ?_) (fun c7 => ?_)
      · replace hf := ifn c7 hf
        exact nd_loc [0, 1] rfl (tX6_write_146 l w hfl F d r (fX6_write_125 F d n) ih _ _ k_this _ hf)
      · replace hf := ifp c7 hf
        refine nd_aload_n (j := 0) dX6_write_141 rfl rfl ?_
        refine nd_iload_n (j := 1) dX6_write_142 rfl rfl ?_
        replace hf := cvE hf
        obtain ⟨h8, e_h8, hf⟩ := hf
        refine nd_Vv [] (tX6_packed l w hfl F d k_this e_h8) rfl dX6_write_143 mw_X6_packed (Or.inl q1750) k_this rfl q1752 qs76 (by omega) (by omega) (Nat.le_of_ble_eq_true rfl) ?_
        exact nd_loc [0, 1] rfl (tX6_write_146 l w hfl F d r (fX6_write_125 F d n) ih _ _ k_this _ hf)
set_option maxHeartbeats 4000000 in
theorem tX6_write_75 (l : Launch) (w : Wd) (hfl : l.stackTraces = false) (F d : Nat) (r : Hp) : ∀ (n : Nat) (this : Nat) (x1 : Int32) (x2 : Int32) (k_this : nd_Kd this = 5) (h : Hp), fX6_write_75 F d n this x1 x2 h = some r → nd_V l w yX6_write cX6_write 3 none 6 141 (.inl none, r) h 75 [(0, vr (some this)), (1, vi x1), (2, vi x2)] [] := by
  intro n
  induction n with
  | zero => intro _ _ _ _ _ hf; cases hf
  | succ n ih =>
    intro this x1 x2 k_this h hf
    unfold fX6_write_75 at hf
    refine nd_iload_n (j := 2) dX6_write_75 rfl rfl ?_
    refine nd_sipush (v := 4000) dX6_write_76 (by decide) ?_
    refine nd_icmp_ge (tgt := 105) dX6_write_79 (by decide) (fun c1 => ?_) (fun c1 => ?_)
    · replace hf := ifp c1 hf
      refine nd_aload_n (j := 0) dX6_write_105 rfl rfl ?_
      refine nd_sipush (v := 4000) dX6_write_106 (by decide) ?_
      refine nd_aload_n (j := 0) dX6_write_109 rfl rfl ?_
      refine nd_getI (k := 29) dX6_write_110 k_this rfl (Nat.le_of_ble_eq_true rfl) (nd_flO q1369) rfl ?_
      refine nd_isub dX6_write_113 ?_
      refine nd_putN (k := 29) dX6_write_114 k_this rfl (Nat.le_of_ble_eq_true rfl) (nd_flO q1369) rfl rfl rfl ?_
      replace hf := bnE hf
      obtain ⟨h2, e_h2, hf⟩ := hf
      refine nd_hp e_h2 ?_
      refine nd_iload_n (j := 1) dX6_write_117 rfl rfl ?_
      refine nd_iconst (v := 1) dX6_write_118 (by decide) ?_
      refine nd_icmp_ne (tgt := 123) dX6_write_119 (by decide) (fun c3 => ?_) (fun c3 => ?_)
      · replace hf := ifn c3 hf
        refine nd_iconst (v := 0) dX6_write_123 (by decide) ?_
        refine nd_istore_n [(2, vi 0), (0, vr (some this)), (1, vi x1)] dX6_write_124 rfl (Nat.le_of_ble_eq_true rfl) rfl ?_
        exact nd_loc [1, 0] rfl (tX6_write_125 l w hfl F d r F _ _ k_this _ hf)
      · replace hf := ifp c3 hf
        cases hf
        exact nd_vret dX6_write_122
    · replace hf := ifn c1 hf
      refine nd_aload_n (j := 0) dX6_write_82 rfl rfl ?_
      refine nd_getP (k := 33) dX6_write_83 k_this rfl (Nat.le_of_ble_eq_true rfl) (nd_flO q1373) rfl (fun ok4 => ?_)
      replace hf := nnE hf
      obtain ⟨a5, e_a5, hf⟩ := hf
      refine nd_topr e_a5.symm ?_
      have k_a5 : nd_Kd a5 = 20 := nd_c1 (ok4 a5 e_a5)
      refine nd_iload_n (j := 2) dX6_write_86 rfl rfl ?_
      refine nd_aload_n (j := 0) dX6_write_87 rfl rfl ?_
      refine nd_getI (k := 29) dX6_write_88 k_this rfl (Nat.le_of_ble_eq_true rfl) (nd_flO q1369) rfl ?_
      refine nd_isub dX6_write_91 ?_
      refine nd_aload_n (j := 0) dX6_write_92 rfl rfl ?_
      refine nd_getP (k := 33) dX6_write_93 k_this rfl (Nat.le_of_ble_eq_true rfl) (nd_flO q1373) rfl (fun ok6 => ?_)
      replace hf := nnE hf
      obtain ⟨a7, e_a7, hf⟩ := hf
      refine nd_topr e_a7.symm ?_
      have k_a7 : nd_Kd a7 = 20 := nd_c1 (ok6 a7 e_a7)
      refine nd_iload_n (j := 2) dX6_write_96 rfl rfl ?_
      replace hf := ckE hf
      obtain ⟨c8, hf⟩ := hf
      refine nd_iald dX6_write_97 k_a7 c8 ?_
      replace hf := ckE hf
      obtain ⟨c9, hf⟩ := hf
      refine nd_iast dX6_write_98 k_a5 c9 ?_
      replace hf := bnE hf
      obtain ⟨h10, e_h10, hf⟩ := hf
      refine nd_hp e_h10 ?_
      replace hf := bnE hf
      obtain ⟨v11, e_v11, hf⟩ := hf
      refine nd_iinc (v := v11) (j := 2) [(2, vi v11), (0, vr (some this)), (1, vi x1)] dX6_write_99 rfl (by rw [e_v11]; rfl) (Nat.le_of_ble_eq_true rfl) rfl ?_
      refine nd_goto (tgt := 75) dX6_write_102 (by decide) ?_
      exact nd_loc [1, 2, 0] rfl (ih _ _ _ k_this _ hf)
set_option maxHeartbeats 4000000 in
theorem tX6_write_70 (l : Launch) (w : Wd) (hfl : l.stackTraces = false) (F d : Nat) (r : Hp) (this : Nat) (x1 : Int32) (k_this : nd_Kd this = 5) (h : Hp) (hf : fX6_write_70 F d this x1 h = some r) : nd_V l w yX6_write cX6_write 3 none 6 141 (.inl none, r) h 70 [(0, vr (some this)), (1, vi x1)] [] := by
  unfold fX6_write_70 at hf
  refine nd_aload_n (j := 0) dX6_write_70 rfl rfl ?_
  refine nd_getI (k := 29) dX6_write_71 k_this rfl (Nat.le_of_ble_eq_true rfl) (nd_flO q1369) rfl ?_
  replace hf := bnE hf
  obtain ⟨v1, e_v1, hf⟩ := hf
  refine nd_top e_v1 ?_
  refine nd_istore_n [(2, vi v1), (0, vr (some this)), (1, vi x1)] dX6_write_74 rfl (Nat.le_of_ble_eq_true rfl) rfl ?_
  exact nd_loc [1, 2, 0] rfl (tX6_write_75 l w hfl F d r F _ _ _ k_this _ hf)
set_option maxHeartbeats 4000000 in
theorem tX6_write_54 (l : Launch) (w : Wd) (hfl : l.stackTraces = false) (F d : Nat) (r : Hp) (k_32 : Nat → Int32 → Int32 → Hp → Option (Hp)) (hk_32 : ∀ (this : Nat) (x1 : Int32) (x2 : Int32) (k_this : nd_Kd this = 5) (h : Hp), k_32 this x1 x2 h = some r → nd_V l w yX6_write cX6_write 3 none 6 141 (.inl none, r) h 32 [(0, vr (some this)), (1, vi x1), (2, vi x2)] []) (this : Nat) (x1 : Int32) (x2 : Int32) (k_this : nd_Kd this = 5) (h : Hp) (hf : fX6_write_54 F d k_32 this x1 x2 h = some r) : nd_V l w yX6_write cX6_write 3 none 6 141 (.inl none, r) h 54 [(0, vr (some this)), (1, vi x1), (2, vi x2)] [] := by
  unfold fX6_write_54 at hf
  refine nd_aload_n (j := 0) dX6_write_54 rfl rfl ?_
  refine nd_getP (k := 42) dX6_write_55 k_this rfl (Nat.le_of_ble_eq_true rfl) (nd_flO q1382) rfl (fun ok1 => ?_)
  replace hf := nnE hf
  obtain ⟨a2, e_a2, hf⟩ := hf
  refine nd_topr e_a2.symm ?_
  have k_a2 : nd_Kd a2 = 20 := nd_c1 (ok1 a2 e_a2)
  refine nd_iload_n (j := 2) dX6_write_58 rfl rfl ?_
  refine nd_aload_n (j := 0) dX6_write_59 rfl rfl ?_
  refine nd_getI (k := 29) dX6_write_60 k_this rfl (Nat.le_of_ble_eq_true rfl) (nd_flO q1369) rfl ?_
  replace hf := ckE hf
  obtain ⟨c3, hf⟩ := hf
  refine nd_iast dX6_write_63 k_a2 c3 ?_
  replace hf := bnE hf
  obtain ⟨h4, e_h4, hf⟩ := hf
  refine nd_hp e_h4 ?_
  replace hf := bnE hf
  obtain ⟨v5, e_v5, hf⟩ := hf
  refine nd_iinc (v := v5) (j := 2) [(2, vi v5), (0, vr (some this)), (1, vi x1)] dX6_write_64 rfl (by rw [e_v5]; rfl) (Nat.le_of_ble_eq_true rfl) rfl ?_
  refine nd_goto (tgt := 32) dX6_write_67 (by decide) ?_
  exact nd_loc [1, 2, 0] rfl (hk_32 _ _ _ k_this _ hf)
set_option maxHeartbeats 4000000 in
theorem tX6_write_32 (l : Launch) (w : Wd) (hfl : l.stackTraces = false) (F d : Nat) (r : Hp) : ∀ (n : Nat) (this : Nat) (x1 : Int32) (x2 : Int32) (k_this : nd_Kd this = 5) (h : Hp), fX6_write_32 F d n this x1 x2 h = some r → nd_V l w yX6_write cX6_write 3 none 6 141 (.inl none, r) h 32 [(0, vr (some this)), (1, vi x1), (2, vi x2)] [] := by
  intro n
  induction n with
  | zero => intro _ _ _ _ _ hf; cases hf
  | succ n ih =>
    intro this x1 x2 k_this h hf
    unfold fX6_write_32 at hf
    refine nd_iload_n (j := 2) dX6_write_32 rfl rfl ?_
    refine nd_if_lt (tgt := 70) dX6_write_33 (by decide) (fun c1 => ?_) (fun c1 => ?_)
    · replace hf := ifp c1 hf
      exact nd_loc [0, 1] rfl (tX6_write_70 l w hfl F d r _ _ k_this _ hf)
    · replace hf := ifn c1 hf
      refine nd_iload_n (j := 1) dX6_write_36 rfl rfl ?_
      refine nd_iconst (v := 1) dX6_write_37 (by decide) ?_
      refine nd_icmp_ne (tgt := 70) dX6_write_38 (by decide) (fun c2 => ?_) (fun c2 => ?_)
      · replace hf := ifn c2 hf
        exact nd_loc [0, 1] rfl (tX6_write_70 l w hfl F d r _ _ k_this _ hf)
      · replace hf := ifp c2 hf
        refine nd_aload_n (j := 0) dX6_write_41 rfl rfl ?_
        refine nd_iload_n (j := 2) dX6_write_42 rfl rfl ?_
        replace hf := caE hf
        obtain ⟨v4, h3, e_h3, hf⟩ := hf
        refine nd_Vi [] (tX6_isLeft l w hfl F d k_this e_h3) rfl dX6_write_43 mw_X6_isLeft (Or.inl q1738) k_this rfl q1740 qs73 (by omega) (by omega) (Nat.le_of_ble_eq_true rfl) ?_
        refine nd_if_ne (tgt := 54) dX6_write_46 (by decide) (fun c5 => ?_) (fun c5 => ?_)
        · replace hf := ifn c5 hf
          exact nd_loc [0, 1, 2] rfl (tX6_write_54 l w hfl F d r (fX6_write_32 F d n) ih _ _ _ k_this _ hf)
        · replace hf := ifp c5 hf
          refine nd_aload_n (j := 0) dX6_write_49 rfl rfl ?_
          refine nd_iload_n (j := 2) dX6_write_50 rfl rfl ?_
          replace hf := cvE hf
          obtain ⟨h6, e_h6, hf⟩ := hf
          refine nd_Vv [] (tX6_encode l w hfl F d k_this e_h6) rfl dX6_write_51 mw_X6_encode (Or.inl q1742) k_this rfl q1744 qs74 (by omega) (by omega) (Nat.le_of_ble_eq_true rfl) ?_
          exact nd_loc [0, 1, 2] rfl (tX6_write_54 l w hfl F d r (fX6_write_32 F d n) ih _ _ _ k_this _ hf)
set_option maxHeartbeats 4000000 in
theorem tX6_write (l : Launch) (w : Wd) (hfl : l.stackTraces = false) (F d : Nat) {this : Nat} {p0 : Int32} (k_this : nd_Kd this = 5) {h : Hp} {r : Hp} (hf : fX6_write F d this p0 h = some r) : nd_C l w yX6_write cX6_write 3 none 6 141 [vr (some this), vi p0] h (.inl none, r) := by
  refine nd_start (as := [vr (some this), vi p0]) hfl (by decide) (Nat.le_of_ble_eq_true rfl) ?_
  unfold fX6_write at hf
  refine nd_eqL (L' := [(0, vr (some this)), (1, vi p0)]) rfl ?_
  refine nd_aload_n (j := 0) dX6_write_0 rfl rfl ?_
  refine nd_iconst (v := 0) dX6_write_1 (by decide) ?_
  refine nd_putN (k := 30) dX6_write_2 k_this rfl (Nat.le_of_ble_eq_true rfl) (nd_flO q1370) rfl rfl rfl ?_
  replace hf := bnE hf
  obtain ⟨h1, e_h1, hf⟩ := hf
  refine nd_hp e_h1 ?_
  refine nd_aload_n (j := 0) dX6_write_5 rfl rfl ?_
  refine nd_sipush (v := 4000) dX6_write_6 (by decide) ?_
  refine nd_putN (k := 29) dX6_write_9 k_this rfl (Nat.le_of_ble_eq_true rfl) (nd_flO q1369) rfl rfl rfl ?_
  replace hf := bnE hf
  obtain ⟨h2, e_h2, hf⟩ := hf
  refine nd_hp e_h2 ?_
  refine nd_aload_n (j := 0) dX6_write_12 rfl rfl ?_
  refine nd_getP (k := 42) dX6_write_13 k_this rfl (Nat.le_of_ble_eq_true rfl) (nd_flO q1382) rfl (fun ok3 => ?_)
  replace hf := nnE hf
  obtain ⟨a4, e_a4, hf⟩ := hf
  refine nd_topr e_a4.symm ?_
  have k_a4 : nd_Kd a4 = 20 := nd_c1 (ok3 a4 e_a4)
  refine nd_aload_n (j := 0) dX6_write_16 rfl rfl ?_
  refine nd_getI (k := 34) dX6_write_17 k_this rfl (Nat.le_of_ble_eq_true rfl) (nd_flO q1374) rfl ?_
  refine nd_aload_n (j := 0) dX6_write_20 rfl rfl ?_
  refine nd_getI (k := 29) dX6_write_21 k_this rfl (Nat.le_of_ble_eq_true rfl) (nd_flO q1369) rfl ?_
  replace hf := ckE hf
  obtain ⟨c5, hf⟩ := hf
  refine nd_iast dX6_write_24 k_a4 c5 ?_
  replace hf := bnE hf
  obtain ⟨h6, e_h6, hf⟩ := hf
  refine nd_hp e_h6 ?_
  refine nd_aload_n (j := 0) dX6_write_25 rfl rfl ?_
  refine nd_getI (k := 34) dX6_write_26 k_this rfl (Nat.le_of_ble_eq_true rfl) (nd_flO q1374) rfl ?_
  refine nd_iconst (v := 1) dX6_write_29 (by decide) ?_
  refine nd_isub dX6_write_30 ?_
  replace hf := bnE hf
  obtain ⟨v7, e_v7, hf⟩ := hf
  refine nd_top e_v7 ?_
  refine nd_istore_n [(2, vi v7), (0, vr (some this)), (1, vi p0)] dX6_write_31 rfl (Nat.le_of_ble_eq_true rfl) rfl ?_
  exact nd_loc [1, 2, 0] rfl (tX6_write_32 l w hfl F d r F _ _ _ k_this _ hf)
def fX6_isValue_194 (F d : Nat) (k_158 : Nat → Int32 → Hp → Option (Int32 × Hp)) (this : Nat) (x3 : Int32) (s0 : Nat) (s1 : Int32) (h : Hp) : Option (Int32 × Hp) :=
  ck (isB s1) (
  bn (sI h 649 s0 s1) fun h1 => (
  bn (x3 + 1) fun v3 => (
  k_158 this v3 h1)))
def fX6_isValue_158 (F d : Nat) : Nat → Nat → Int32 → Hp → Option (Int32 × Hp)
  | 0, _, _, _ => none
  | n + 1, this, x3, h =>
    if (gI h 629 this) ≤ x3 then
    (ck (isB (gI h 649 this)) (
    some ((gI h 649 this), h)))
    else
    (if (gI h 649 this) = 0 then
    (ck (isB (gI h 649 this)) (
    some ((gI h 649 this), h)))
    else
    (nn (gP h 633 this) fun a6 => (
    ck (inb x3 (nd_Ln a6)) (
    nn (gP h 632 this) fun a9 => (
    ck (inb x3 (nd_Ln a9)) (
    if (gA h a6 (Int32.toNatClampNeg x3)) = (gA h a9 (Int32.toNatClampNeg x3)) then
    (fX6_isValue_194 F d (fX6_isValue_158 F d n) this x3 this 1 h)
    else
    (fX6_isValue_194 F d (fX6_isValue_158 F d n) this x3 this 0 h)))))))
def fX6_isValue_153 (F d : Nat) (this : Nat) (s0 : Nat) (s1 : Int32) (h : Hp) : Option (Int32 × Hp) :=
  ck (isB s1) (
  bn (sI h 649 s0 s1) fun h1 => (
  fX6_isValue_158 F d F this 0 h1))
def fX6_isValue_109 (F d : Nat) (this : Nat) (x2 : Int32) (s0 : Nat) (s1 : Int32) (h : Hp) : Option (Int32 × Hp) :=
  ck (isB s1) (
  bn (sI h 649 s0 s1) fun h1 => (
  if (gI h1 649 this) = 0 then
  (some (0, h1))
  else
  (cv (fX6_settle F d this h1) fun h4 => (
  if x2 = 0 then
  (some (1, h4))
  else
  (cv (fX6_write F d this x2 h4) fun h7 => (
  if (gI h7 629 this) = (gI h7 628 this) then
  (fX6_isValue_153 F d this this 1 h7)
  else
  (fX6_isValue_153 F d this this 0 h7)))))))
def fX6_isValue_108 (F d : Nat) (this : Nat) (x2 : Int32) (s0 : Nat) (h : Hp) : Option (Int32 × Hp) :=
  fX6_isValue_109 F d this x2 s0 0 h
def fX6_isValue_104 (F d : Nat) (this : Nat) (x2 : Int32) (s0 : Nat) (h : Hp) : Option (Int32 × Hp) :=
  fX6_isValue_109 F d this x2 s0 1 h
def fX6_isValue_80 (F d : Nat) (this : Nat) (x2 : Int32) (h : Hp) : Option (Int32 × Hp) :=
  if (gI h 649 this) = 0 then
  (fX6_isValue_108 F d this x2 this h)
  else
  (if x2 = 2 then
  (fX6_isValue_104 F d this x2 this h)
  else
  (if (gI h 647 this) = (gI h 628 this) then
  (fX6_isValue_104 F d this x2 this h)
  else
  (fX6_isValue_108 F d this x2 this h)))
def fX6_isValue_47 (F d : Nat) : Nat → Nat → Int32 → Hp → Option (Int32 × Hp)
  | 0, _, _, _ => none
  | n + 1, this, x2, h =>
    if (gI h 649 this) = 0 then
    (fX6_isValue_80 F d this x2 h)
    else
    (if (gI h 648 this) ≤ 0 then
    (fX6_isValue_80 F d this x2 h)
    else
    (if 2 ≤ x2 then
    (cv (fX6_goOnPacked F d this h) fun h4 => (
    fX6_isValue_47 F d n this x2 h4))
    else
    (cv (fX6_goOn F d this h) fun h6 => (
    fX6_isValue_47 F d n this x2 h6))))
def fX6_isValue (F d : Nat) (this : Nat) (p0 : Int32) (p1 : Int32) (h : Hp) : Option (Int32 × Hp) :=
  bn (sI h 634 this 0) fun h1 => (
  bn (sI h1 635 this 0) fun h2 => (
  bn (sI h2 648 this 0) fun h3 => (
  bn (sI h3 647 this 0) fun h4 => (
  bn (sI h4 649 this 1) fun h5 => (
  if 2 ≤ p1 then
  (cv (fX6_want F d this p0 (-1) 0 h5) fun h7 => (
  fX6_isValue_47 F d F this p1 h7))
  else
  (cv (fX6_element F d this p0 (-1) 0 h5) fun h9 => (
  fX6_isValue_47 F d F this p1 h9)))))))
theorem mw_X6_isValue : nd_MW yX6_isValue cX6_isValue 4 (some .boolean) 2 := ⟨q1634, q91, by decide, by decide, by decide +kernel⟩
set_option maxHeartbeats 4000000 in
theorem tX6_isValue_194 (l : Launch) (w : Wd) (hfl : l.stackTraces = false) (F d : Nat) (r : Int32 × Hp) (k_158 : Nat → Int32 → Hp → Option (Int32 × Hp)) (hk_158 : ∀ (this : Nat) (x3 : Int32) (k_this : nd_Kd this = 5) (h : Hp), k_158 this x3 h = some r → nd_V l w yX6_isValue cX6_isValue 4 (some .boolean) 7 169 (.inl (some (vi r.1)), r.2) h 158 [(0, vr (some this)), (3, vi x3)] []) (this : Nat) (x3 : Int32) (s0 : Nat) (s1 : Int32) (k_this : nd_Kd this = 5) (k_s0 : nd_Kd s0 = 5) (h : Hp) (hf : fX6_isValue_194 F d k_158 this x3 s0 s1 h = some r) : nd_V l w yX6_isValue cX6_isValue 4 (some .boolean) 7 169 (.inl (some (vi r.1)), r.2) h 194 [(0, vr (some this)), (3, vi x3)] [vi s1, vr (some s0)] := by
  unfold fX6_isValue_194 at hf
  replace hf := ckE hf
  obtain ⟨c2, hf⟩ := hf
  refine nd_putZ (k := 49) c2 dX6_isValue_194 k_s0 rfl (Nat.le_of_ble_eq_true rfl) (nd_flO q1389) rfl rfl rfl ?_
  replace hf := bnE hf
  obtain ⟨h1, e_h1, hf⟩ := hf
  refine nd_hp e_h1 ?_
  replace hf := bnE hf
  obtain ⟨v3, e_v3, hf⟩ := hf
  refine nd_iinc (v := v3) (j := 1) [(3, vi v3), (0, vr (some this))] dX6_isValue_197 rfl (by rw [e_v3]; rfl) (Nat.le_of_ble_eq_true rfl) rfl ?_
  refine nd_goto (tgt := 158) dX6_isValue_200 (by decide) ?_
  exact nd_loc [1, 0] rfl (hk_158 _ _ k_this _ hf)
set_option maxHeartbeats 4000000 in
theorem tX6_isValue_158 (l : Launch) (w : Wd) (hfl : l.stackTraces = false) (F d : Nat) (r : Int32 × Hp) : ∀ (n : Nat) (this : Nat) (x3 : Int32) (k_this : nd_Kd this = 5) (h : Hp), fX6_isValue_158 F d n this x3 h = some r → nd_V l w yX6_isValue cX6_isValue 4 (some .boolean) 7 169 (.inl (some (vi r.1)), r.2) h 158 [(0, vr (some this)), (3, vi x3)] [] := by
  intro n
  induction n with
  | zero => intro _ _ _ _ hf; cases hf
  | succ n ih =>
    intro this x3 k_this h hf
    unfold fX6_isValue_158 at hf
    refine nd_iload_n (j := 1) dX6_isValue_158 rfl rfl ?_
    refine nd_aload_n (j := 0) dX6_isValue_159 rfl rfl ?_
    refine nd_getI (k := 29) dX6_isValue_160 k_this rfl (Nat.le_of_ble_eq_true rfl) (nd_flO q1369) rfl ?_
    refine nd_icmp_ge (tgt := 203) dX6_isValue_163 (by decide) (fun c1 => ?_) (fun c1 => ?_)
    · replace hf := ifp c1 hf
      refine nd_aload_n (j := 0) dX6_isValue_203 rfl rfl ?_
      refine nd_getI (k := 49) dX6_isValue_204 k_this rfl (Nat.le_of_ble_eq_true rfl) (nd_flO q1389) rfl ?_
      replace hf := ckE hf
      obtain ⟨c2, hf⟩ := hf
      cases hf
      exact nd_zret (v := (gI h 649 this)) c2 dX6_isValue_207
    · replace hf := ifn c1 hf
      refine nd_aload_n (j := 0) dX6_isValue_166 rfl rfl ?_
      refine nd_getI (k := 49) dX6_isValue_167 k_this rfl (Nat.le_of_ble_eq_true rfl) (nd_flO q1389) rfl ?_
      refine nd_if_eq (tgt := 203) dX6_isValue_170 (by decide) (fun c3 => ?_) (fun c3 => ?_)
      · replace hf := ifp c3 hf
        refine nd_aload_n (j := 0) dX6_isValue_203 rfl rfl ?_
        refine nd_getI (k := 49) dX6_isValue_204 k_this rfl (Nat.le_of_ble_eq_true rfl) (nd_flO q1389) rfl ?_
        replace hf := ckE hf
        obtain ⟨c4, hf⟩ := hf
        cases hf
        exact nd_zret (v := (gI h 649 this)) c4 dX6_isValue_207
      · replace hf := ifn c3 hf
        refine nd_aload_n (j := 0) dX6_isValue_173 rfl rfl ?_
        refine nd_aload_n (j := 0) dX6_isValue_174 rfl rfl ?_
        refine nd_getP (k := 33) dX6_isValue_175 k_this rfl (Nat.le_of_ble_eq_true rfl) (nd_flO q1373) rfl (fun ok5 => ?_)
        replace hf := nnE hf
        obtain ⟨a6, e_a6, hf⟩ := hf
        refine nd_topr e_a6.symm ?_
        have k_a6 : nd_Kd a6 = 20 := nd_c1 (ok5 a6 e_a6)
        refine nd_iload_n (j := 1) dX6_isValue_178 rfl rfl ?_
        replace hf := ckE hf
        obtain ⟨c7, hf⟩ := hf
        refine nd_iald dX6_isValue_179 k_a6 c7 ?_
        refine nd_aload_n (j := 0) dX6_isValue_180 rfl rfl ?_
        refine nd_getP (k := 32) dX6_isValue_181 k_this rfl (Nat.le_of_ble_eq_true rfl) (nd_flO q1372) rfl (fun ok8 => ?_)
        replace hf := nnE hf
        obtain ⟨a9, e_a9, hf⟩ := hf
        refine nd_topr e_a9.symm ?_
        have k_a9 : nd_Kd a9 = 20 := nd_c1 (ok8 a9 e_a9)
        refine nd_iload_n (j := 1) dX6_isValue_184 rfl rfl ?_
        replace hf := ckE hf
        obtain ⟨c10, hf⟩ := hf
        refine nd_iald dX6_isValue_185 k_a9 c10 ?_
        refine nd_icmp_ne (tgt := 193) dX6_isValue_186 (by decide) (fun c11 => ?_) (fun c11 => ?_)
        · replace hf := ifn c11 hf
          refine nd_iconst (v := 0) dX6_isValue_193 (by decide) ?_
          exact nd_loc [0, 1] rfl (tX6_isValue_194 l w hfl F d r (fX6_isValue_158 F d n) ih _ _ _ _ k_this k_this _ hf)
        · replace hf := ifp c11 hf
          refine nd_iconst (v := 1) dX6_isValue_189 (by decide) ?_
          refine nd_goto (tgt := 194) dX6_isValue_190 (by decide) ?_
          exact nd_loc [0, 1] rfl (tX6_isValue_194 l w hfl F d r (fX6_isValue_158 F d n) ih _ _ _ _ k_this k_this _ hf)
set_option maxHeartbeats 4000000 in
theorem tX6_isValue_153 (l : Launch) (w : Wd) (hfl : l.stackTraces = false) (F d : Nat) (r : Int32 × Hp) (this : Nat) (s0 : Nat) (s1 : Int32) (k_this : nd_Kd this = 5) (k_s0 : nd_Kd s0 = 5) (h : Hp) (hf : fX6_isValue_153 F d this s0 s1 h = some r) : nd_V l w yX6_isValue cX6_isValue 4 (some .boolean) 7 169 (.inl (some (vi r.1)), r.2) h 153 [(0, vr (some this))] [vi s1, vr (some s0)] := by
  unfold fX6_isValue_153 at hf
  replace hf := ckE hf
  obtain ⟨c2, hf⟩ := hf
  refine nd_putZ (k := 49) c2 dX6_isValue_153 k_s0 rfl (Nat.le_of_ble_eq_true rfl) (nd_flO q1389) rfl rfl rfl ?_
  replace hf := bnE hf
  obtain ⟨h1, e_h1, hf⟩ := hf
  refine nd_hp e_h1 ?_
  refine nd_iconst (v := 0) dX6_isValue_156 (by decide) ?_
  refine nd_istore_n [(3, vi 0), (0, vr (some this))] dX6_isValue_157 rfl (Nat.le_of_ble_eq_true rfl) rfl ?_
  exact nd_loc [1, 0] rfl (tX6_isValue_158 l w hfl F d r F _ _ k_this _ hf)
set_option maxHeartbeats 4000000 in
theorem tX6_isValue_109 (l : Launch) (w : Wd) (hfl : l.stackTraces = false) (F d : Nat) (r : Int32 × Hp) (this : Nat) (x2 : Int32) (s0 : Nat) (s1 : Int32) (k_this : nd_Kd this = 5) (k_s0 : nd_Kd s0 = 5) (h : Hp) (hf : fX6_isValue_109 F d this x2 s0 s1 h = some r) : nd_V l w yX6_isValue cX6_isValue 4 (some .boolean) 7 169 (.inl (some (vi r.1)), r.2) h 109 [(0, vr (some this)), (2, vi x2)] [vi s1, vr (some s0)] := by
  unfold fX6_isValue_109 at hf
  replace hf := ckE hf
  obtain ⟨c2, hf⟩ := hf
  refine nd_putZ (k := 49) c2 dX6_isValue_109 k_s0 rfl (Nat.le_of_ble_eq_true rfl) (nd_flO q1389) rfl rfl rfl ?_
  replace hf := bnE hf
  obtain ⟨h1, e_h1, hf⟩ := hf
  refine nd_hp e_h1 ?_
  refine nd_aload_n (j := 0) dX6_isValue_112 rfl rfl ?_
  refine nd_getI (k := 49) dX6_isValue_113 k_this rfl (Nat.le_of_ble_eq_true rfl) (nd_flO q1389) rfl ?_
  refine nd_if_ne (tgt := 121) dX6_isValue_116 (by decide) (fun c3 => ?_) (fun c3 => ?_)
  · replace hf := ifn c3 hf
    refine nd_aload_n (j := 0) dX6_isValue_121 rfl rfl ?_
    replace hf := cvE hf
    obtain ⟨h4, e_h4, hf⟩ := hf
    refine nd_Vv [] (tX6_settle l w hfl F d k_this e_h4) rfl dX6_isValue_122 mw_X6_settle (Or.inl q1730) k_this rfl q1732 qs71 (by omega) (by omega) (Nat.le_of_ble_eq_true rfl) ?_
    refine nd_iload_n (j := 1) dX6_isValue_125 rfl rfl ?_
    refine nd_if_ne (tgt := 131) dX6_isValue_126 (by decide) (fun c6 => ?_) (fun c6 => ?_)
    · replace hf := ifn c6 hf
      refine nd_aload_n (j := 0) dX6_isValue_131 rfl rfl ?_
      refine nd_iload_n (j := 1) dX6_isValue_132 rfl rfl ?_
      replace hf := cvE hf
      obtain ⟨h7, e_h7, hf⟩ := hf
      refine nd_Vv [] (tX6_write l w hfl F d k_this e_h7) rfl dX6_isValue_133 mw_X6_write (Or.inl q1734) k_this rfl q1736 qs72 (by omega) (by omega) (Nat.le_of_ble_eq_true rfl) ?_
      refine nd_aload_n (j := 0) dX6_isValue_136 rfl rfl ?_
      refine nd_aload_n (j := 0) dX6_isValue_137 rfl rfl ?_
      refine nd_getI (k := 29) dX6_isValue_138 k_this rfl (Nat.le_of_ble_eq_true rfl) (nd_flO q1369) rfl ?_
      refine nd_aload_n (j := 0) dX6_isValue_141 rfl rfl ?_
      refine nd_getI (k := 28) dX6_isValue_142 k_this rfl (Nat.le_of_ble_eq_true rfl) (nd_flO q1368) rfl ?_
      refine nd_icmp_ne (tgt := 152) dX6_isValue_145 (by decide) (fun c9 => ?_) (fun c9 => ?_)
      · replace hf := ifn c9 hf
        refine nd_iconst (v := 0) dX6_isValue_152 (by decide) ?_
        exact nd_loc [0] rfl (tX6_isValue_153 l w hfl F d r _ _ _ k_this k_this _ hf)
      · replace hf := ifp c9 hf
        refine nd_iconst (v := 1) dX6_isValue_148 (by decide) ?_
        refine nd_goto (tgt := 153) dX6_isValue_149 (by decide) ?_
        exact nd_loc [0] rfl (tX6_isValue_153 l w hfl F d r _ _ _ k_this k_this _ hf)
    · replace hf := ifp c6 hf
      refine nd_iconst (v := 1) dX6_isValue_129 (by decide) ?_
      cases hf
      exact nd_zret (v := 1) (by decide) dX6_isValue_130
  · replace hf := ifp c3 hf
    refine nd_iconst (v := 0) dX6_isValue_119 (by decide) ?_
    cases hf
    exact nd_zret (v := 0) (by decide) dX6_isValue_120
set_option maxHeartbeats 4000000 in
theorem tX6_isValue_108 (l : Launch) (w : Wd) (hfl : l.stackTraces = false) (F d : Nat) (r : Int32 × Hp) (this : Nat) (x2 : Int32) (s0 : Nat) (k_this : nd_Kd this = 5) (k_s0 : nd_Kd s0 = 5) (h : Hp) (hf : fX6_isValue_108 F d this x2 s0 h = some r) : nd_V l w yX6_isValue cX6_isValue 4 (some .boolean) 7 169 (.inl (some (vi r.1)), r.2) h 108 [(0, vr (some this)), (2, vi x2)] [vr (some s0)] := by
  unfold fX6_isValue_108 at hf
  refine nd_iconst (v := 0) dX6_isValue_108 (by decide) ?_
  exact nd_loc [0, 1] rfl (tX6_isValue_109 l w hfl F d r _ _ _ _ k_this k_s0 _ hf)
set_option maxHeartbeats 4000000 in
theorem tX6_isValue_104 (l : Launch) (w : Wd) (hfl : l.stackTraces = false) (F d : Nat) (r : Int32 × Hp) (this : Nat) (x2 : Int32) (s0 : Nat) (k_this : nd_Kd this = 5) (k_s0 : nd_Kd s0 = 5) (h : Hp) (hf : fX6_isValue_104 F d this x2 s0 h = some r) : nd_V l w yX6_isValue cX6_isValue 4 (some .boolean) 7 169 (.inl (some (vi r.1)), r.2) h 104 [(0, vr (some this)), (2, vi x2)] [vr (some s0)] := by
  unfold fX6_isValue_104 at hf
  refine nd_iconst (v := 1) dX6_isValue_104 (by decide) ?_
  refine nd_goto (tgt := 109) dX6_isValue_105 (by decide) ?_
  exact nd_loc [0, 1] rfl (tX6_isValue_109 l w hfl F d r _ _ _ _ k_this k_s0 _ hf)
set_option maxHeartbeats 4000000 in
theorem tX6_isValue_80 (l : Launch) (w : Wd) (hfl : l.stackTraces = false) (F d : Nat) (r : Int32 × Hp) (this : Nat) (x2 : Int32) (k_this : nd_Kd this = 5) (h : Hp) (hf : fX6_isValue_80 F d this x2 h = some r) : nd_V l w yX6_isValue cX6_isValue 4 (some .boolean) 7 169 (.inl (some (vi r.1)), r.2) h 80 [(0, vr (some this)), (2, vi x2)] [] := by
  unfold fX6_isValue_80 at hf
  refine nd_aload_n (j := 0) dX6_isValue_80 rfl rfl ?_
  refine nd_aload_n (j := 0) dX6_isValue_81 rfl rfl ?_
  refine nd_getI (k := 49) dX6_isValue_82 k_this rfl (Nat.le_of_ble_eq_true rfl) (nd_flO q1389) rfl ?_
  refine nd_if_eq (tgt := 108) dX6_isValue_85 (by decide) (fun c1 => ?_) (fun c1 => ?_)
  · replace hf := ifp c1 hf
    exact nd_loc [0, 1] rfl (tX6_isValue_108 l w hfl F d r _ _ _ k_this k_this _ hf)
  · replace hf := ifn c1 hf
    refine nd_iload_n (j := 1) dX6_isValue_88 rfl rfl ?_
    refine nd_iconst (v := 2) dX6_isValue_89 (by decide) ?_
    refine nd_icmp_eq (tgt := 104) dX6_isValue_90 (by decide) (fun c2 => ?_) (fun c2 => ?_)
    · replace hf := ifp c2 hf
      exact nd_loc [0, 1] rfl (tX6_isValue_104 l w hfl F d r _ _ _ k_this k_this _ hf)
    · replace hf := ifn c2 hf
      refine nd_aload_n (j := 0) dX6_isValue_93 rfl rfl ?_
      refine nd_getI (k := 47) dX6_isValue_94 k_this rfl (Nat.le_of_ble_eq_true rfl) (nd_flO q1387) rfl ?_
      refine nd_aload_n (j := 0) dX6_isValue_97 rfl rfl ?_
      refine nd_getI (k := 28) dX6_isValue_98 k_this rfl (Nat.le_of_ble_eq_true rfl) (nd_flO q1368) rfl ?_
      refine nd_icmp_ne (tgt := 108) dX6_isValue_101 (by decide) (fun c3 => ?_) (fun c3 => ?_)
      · replace hf := ifn c3 hf
        exact nd_loc [0, 1] rfl (tX6_isValue_108 l w hfl F d r _ _ _ k_this k_this _ hf)
      · replace hf := ifp c3 hf
        exact nd_loc [0, 1] rfl (tX6_isValue_104 l w hfl F d r _ _ _ k_this k_this _ hf)
set_option maxHeartbeats 4000000 in
theorem tX6_isValue_47 (l : Launch) (w : Wd) (hfl : l.stackTraces = false) (F d : Nat) (r : Int32 × Hp) : ∀ (n : Nat) (this : Nat) (x2 : Int32) (k_this : nd_Kd this = 5) (h : Hp), fX6_isValue_47 F d n this x2 h = some r → nd_V l w yX6_isValue cX6_isValue 4 (some .boolean) 7 169 (.inl (some (vi r.1)), r.2) h 47 [(0, vr (some this)), (2, vi x2)] [] := by
  intro n
  induction n with
  | zero => intro _ _ _ _ hf; cases hf
  | succ n ih =>
    intro this x2 k_this h hf
    unfold fX6_isValue_47 at hf
    refine nd_aload_n (j := 0) dX6_isValue_47 rfl rfl ?_
    refine nd_getI (k := 49) dX6_isValue_48 k_this rfl (Nat.le_of_ble_eq_true rfl) (nd_flO q1389) rfl ?_
    refine nd_if_eq (tgt := 80) dX6_isValue_51 (by decide) (fun c1 => ?_) (fun c1 => ?_)
    · replace hf := ifp c1 hf
      exact nd_loc [0, 1] rfl (tX6_isValue_80 l w hfl F d r _ _ k_this _ hf)
    · replace hf := ifn c1 hf
      refine nd_aload_n (j := 0) dX6_isValue_54 rfl rfl ?_
      refine nd_getI (k := 48) dX6_isValue_55 k_this rfl (Nat.le_of_ble_eq_true rfl) (nd_flO q1388) rfl ?_
      refine nd_if_le (tgt := 80) dX6_isValue_58 (by decide) (fun c2 => ?_) (fun c2 => ?_)
      · replace hf := ifp c2 hf
        exact nd_loc [0, 1] rfl (tX6_isValue_80 l w hfl F d r _ _ k_this _ hf)
      · replace hf := ifn c2 hf
        refine nd_iload_n (j := 1) dX6_isValue_61 rfl rfl ?_
        refine nd_iconst (v := 2) dX6_isValue_62 (by decide) ?_
        refine nd_icmp_ge (tgt := 73) dX6_isValue_63 (by decide) (fun c3 => ?_) (fun c3 => ?_)
        · replace hf := ifp c3 hf
          refine nd_aload_n (j := 0) dX6_isValue_73 rfl rfl ?_
          replace hf := cvE hf
          obtain ⟨h4, e_h4, hf⟩ := hf
          refine nd_Vv [] (tX6_goOnPacked l w hfl F d k_this e_h4) rfl dX6_isValue_74 mw_X6_goOnPacked (Or.inl q1726) k_this rfl q1728 qs70 (by omega) (by omega) (Nat.le_of_ble_eq_true rfl) ?_
          refine nd_goto (tgt := 47) dX6_isValue_77 (by decide) ?_
          exact nd_loc [0, 1] rfl (ih _ _ k_this _ hf)
        · replace hf := ifn c3 hf
          refine nd_aload_n (j := 0) dX6_isValue_66 rfl rfl ?_
          replace hf := cvE hf
          obtain ⟨h6, e_h6, hf⟩ := hf
          refine nd_Vv [] (tX6_goOn l w hfl F d k_this e_h6) rfl dX6_isValue_67 mw_X6_goOn (Or.inl q1706) k_this rfl q1708 qs65 (by omega) (by omega) (Nat.le_of_ble_eq_true rfl) ?_
          refine nd_goto (tgt := 47) dX6_isValue_70 (by decide) ?_
          exact nd_loc [0, 1] rfl (ih _ _ k_this _ hf)
set_option maxHeartbeats 4000000 in
theorem tX6_isValue (l : Launch) (w : Wd) (hfl : l.stackTraces = false) (F d : Nat) {this : Nat} {p0 : Int32} {p1 : Int32} (k_this : nd_Kd this = 5) {h : Hp} {r : Int32 × Hp} (hf : fX6_isValue F d this p0 p1 h = some r) : nd_C l w yX6_isValue cX6_isValue 4 (some .boolean) 7 169 [vr (some this), vi p0, vi p1] h (.inl (some (vi r.1)), r.2) := by
  refine nd_start (as := [vr (some this), vi p0, vi p1]) hfl (by decide) (Nat.le_of_ble_eq_true rfl) ?_
  unfold fX6_isValue at hf
  refine nd_eqL (L' := [(0, vr (some this)), (1, vi p0), (2, vi p1)]) rfl ?_
  refine nd_aload_n (j := 0) dX6_isValue_0 rfl rfl ?_
  refine nd_iconst (v := 0) dX6_isValue_1 (by decide) ?_
  refine nd_putN (k := 34) dX6_isValue_2 k_this rfl (Nat.le_of_ble_eq_true rfl) (nd_flO q1374) rfl rfl rfl ?_
  replace hf := bnE hf
  obtain ⟨h1, e_h1, hf⟩ := hf
  refine nd_hp e_h1 ?_
  refine nd_aload_n (j := 0) dX6_isValue_5 rfl rfl ?_
  refine nd_iconst (v := 0) dX6_isValue_6 (by decide) ?_
  refine nd_putN (k := 35) dX6_isValue_7 k_this rfl (Nat.le_of_ble_eq_true rfl) (nd_flO q1375) rfl rfl rfl ?_
  replace hf := bnE hf
  obtain ⟨h2, e_h2, hf⟩ := hf
  refine nd_hp e_h2 ?_
  refine nd_aload_n (j := 0) dX6_isValue_10 rfl rfl ?_
  refine nd_iconst (v := 0) dX6_isValue_11 (by decide) ?_
  refine nd_putN (k := 48) dX6_isValue_12 k_this rfl (Nat.le_of_ble_eq_true rfl) (nd_flO q1388) rfl rfl rfl ?_
  replace hf := bnE hf
  obtain ⟨h3, e_h3, hf⟩ := hf
  refine nd_hp e_h3 ?_
  refine nd_aload_n (j := 0) dX6_isValue_15 rfl rfl ?_
  refine nd_iconst (v := 0) dX6_isValue_16 (by decide) ?_
  refine nd_putN (k := 47) dX6_isValue_17 k_this rfl (Nat.le_of_ble_eq_true rfl) (nd_flO q1387) rfl rfl rfl ?_
  replace hf := bnE hf
  obtain ⟨h4, e_h4, hf⟩ := hf
  refine nd_hp e_h4 ?_
  refine nd_aload_n (j := 0) dX6_isValue_20 rfl rfl ?_
  refine nd_iconst (v := 1) dX6_isValue_21 (by decide) ?_
  refine nd_putZ (k := 49) (by decide) dX6_isValue_22 k_this rfl (Nat.le_of_ble_eq_true rfl) (nd_flO q1389) rfl rfl rfl ?_
  replace hf := bnE hf
  obtain ⟨h5, e_h5, hf⟩ := hf
  refine nd_hp e_h5 ?_
  refine nd_iload_n (j := 2) dX6_isValue_25 rfl rfl ?_
  refine nd_iconst (v := 2) dX6_isValue_26 (by decide) ?_
  refine nd_icmp_ge (tgt := 40) dX6_isValue_27 (by decide) (fun c6 => ?_) (fun c6 => ?_)
  · replace hf := ifp c6 hf
    refine nd_aload_n (j := 0) dX6_isValue_40 rfl rfl ?_
    refine nd_iload_n (j := 1) dX6_isValue_41 rfl rfl ?_
    refine nd_iconst (v := (-1)) dX6_isValue_42 (by decide) ?_
    refine nd_iconst (v := 0) dX6_isValue_43 (by decide) ?_
    replace hf := cvE hf
    obtain ⟨h7, e_h7, hf⟩ := hf
    refine nd_Vv [] (tX6_want l w hfl F d k_this e_h7) rfl dX6_isValue_44 mw_X6_want (Or.inl q1675) k_this rfl q1677 qs58 (by omega) (by omega) (Nat.le_of_ble_eq_true rfl) ?_
    exact nd_loc [0, 2] rfl (tX6_isValue_47 l w hfl F d r F _ _ k_this _ hf)
  · replace hf := ifn c6 hf
    refine nd_aload_n (j := 0) dX6_isValue_30 rfl rfl ?_
    refine nd_iload_n (j := 1) dX6_isValue_31 rfl rfl ?_
    refine nd_iconst (v := (-1)) dX6_isValue_32 (by decide) ?_
    refine nd_iconst (v := 0) dX6_isValue_33 (by decide) ?_
    replace hf := cvE hf
    obtain ⟨h9, e_h9, hf⟩ := hf
    refine nd_Vv [] (tX6_element l w hfl F d k_this e_h9) rfl dX6_isValue_34 mw_X6_element (Or.inl q1635) k_this rfl q1637 qs50 (by omega) (by omega) (Nat.le_of_ble_eq_true rfl) ?_
    refine nd_goto (tgt := 47) dX6_isValue_37 (by decide) ?_
    exact nd_loc [0, 2] rfl (tX6_isValue_47 l w hfl F d r F _ _ k_this _ hf)
def fX6_fails (F d : Nat) (this : Nat) (p0 : Int32) (h : Hp) : Option (Int32 × Hp) :=
  bn (sI h 600 this p0) fun h1 => (
  some (0, h1))
theorem mw_X6_fails : nd_MW yX6_fails cX6_fails 2 (some .int) 1 := ⟨q1777, q91, by decide, by decide, by decide +kernel⟩
set_option maxHeartbeats 4000000 in
theorem tX6_fails (l : Launch) (w : Wd) (hfl : l.stackTraces = false) (F d : Nat) {this : Nat} {p0 : Int32} (k_this : nd_Kd this = 5) {h : Hp} {r : Int32 × Hp} (hf : fX6_fails F d this p0 h = some r) : nd_C l w yX6_fails cX6_fails 2 (some .int) 0 0 [vr (some this), vi p0] h (.inl (some (vi r.1)), r.2) := by
  refine nd_start (as := [vr (some this), vi p0]) hfl (by decide) (Nat.le_of_ble_eq_true rfl) ?_
  unfold fX6_fails at hf
  refine nd_eqL (L' := [(0, vr (some this)), (1, vi p0)]) rfl ?_
  refine nd_aload_n (j := 0) dX6_fails_0 rfl rfl ?_
  refine nd_iload_n (j := 1) dX6_fails_1 rfl rfl ?_
  refine nd_putN (k := 0) dX6_fails_2 k_this rfl (Nat.le_of_ble_eq_true rfl) (nd_flO q1340) rfl rfl rfl ?_
  replace hf := bnE hf
  obtain ⟨h1, e_h1, hf⟩ := hf
  refine nd_hp e_h1 ?_
  refine nd_iconst (v := 0) dX6_fails_5 (by decide) ?_
  cases hf
  exact nd_iret (v := 0) dX6_fails_6
def fX6_keep_108 (F d : Nat) : Nat → Nat → Int32 → Hp → Option (Hp)
  | 0, _, _, _ => none
  | n + 1, this, x1, h =>
    if (gI h 635 this) ≤ x1 then
    (some h)
    else
    (nn (gP h 646 this) fun a3 => (
    nn (gP h 643 this) fun a5 => (
    ck (inb x1 (nd_Ln a5)) (
    ck (inb x1 (nd_Ln a3)) (
    bn (sA h a3 (Int32.toNatClampNeg x1) (gA h a5 (Int32.toNatClampNeg x1))) fun h8 => (
    bn (x1 + 1) fun v9 => (
    fX6_keep_108 F d n this v9 h8)))))))
def fX6_keep_10 (F d : Nat) : Nat → Nat → Int32 → Hp → Option (Hp)
  | 0, _, _, _ => none
  | n + 1, this, x1, h =>
    if (gI h 634 this) ≤ x1 then
    (fX6_keep_108 F d F this 0 h)
    else
    (nn (gP h 645 this) fun a3 => (
    nn (gP h 611 this) fun a5 => (
    ca (fX6_baseOf F d this x1 h) fun v7 h6 => (
    ck (inb v7 (nd_Ln a5)) (
    ck (inb (5 * x1) (nd_Ln a3)) (
    bn (sA h6 a3 (Int32.toNatClampNeg (5 * x1)) (gA h6 a5 (Int32.toNatClampNeg v7))) fun h10 => (
    nn (gP h10 645 this) fun a12 => (
    nn (gP h10 637 this) fun a14 => (
    ck (inb x1 (nd_Ln a14)) (
    ck (inb ((5 * x1) + 1) (nd_Ln a12)) (
    bn (sA h10 a12 (Int32.toNatClampNeg ((5 * x1) + 1)) (gA h10 a14 (Int32.toNatClampNeg x1))) fun h17 => (
    nn (gP h17 645 this) fun a19 => (
    nn (gP h17 638 this) fun a21 => (
    ck (inb x1 (nd_Ln a21)) (
    ck (inb ((5 * x1) + 2) (nd_Ln a19)) (
    bn (sA h17 a19 (Int32.toNatClampNeg ((5 * x1) + 2)) (gA h17 a21 (Int32.toNatClampNeg x1))) fun h24 => (
    nn (gP h24 645 this) fun a26 => (
    nn (gP h24 639 this) fun a28 => (
    ck (inb x1 (nd_Ln a28)) (
    ck (inb ((5 * x1) + 3) (nd_Ln a26)) (
    bn (sA h24 a26 (Int32.toNatClampNeg ((5 * x1) + 3)) (gA h24 a28 (Int32.toNatClampNeg x1))) fun h31 => (
    nn (gP h31 645 this) fun a33 => (
    nn (gP h31 640 this) fun a35 => (
    ck (inb x1 (nd_Ln a35)) (
    ck (inb ((5 * x1) + 4) (nd_Ln a33)) (
    bn (sA h31 a33 (Int32.toNatClampNeg ((5 * x1) + 4)) (gA h31 a35 (Int32.toNatClampNeg x1))) fun h38 => (
    bn (x1 + 1) fun v39 => (
    fX6_keep_10 F d n this v39 h38))))))))))))))))))))))))))))
def fX6_keep (F d : Nat) (this : Nat) (h : Hp) : Option (Hp) :=
  bn (sI h 644 this (gI h 634 this)) fun h1 => (
  fX6_keep_10 F d F this 0 h1)
theorem mw_X6_keep : nd_MW yX6_keep cX6_keep 2 none 0 := ⟨q1781, q91, by decide, by decide, by decide +kernel⟩
set_option maxHeartbeats 4000000 in
theorem tX6_keep_108 (l : Launch) (w : Wd) (hfl : l.stackTraces = false) (F d : Nat) (r : Hp) : ∀ (n : Nat) (this : Nat) (x1 : Int32) (k_this : nd_Kd this = 5) (h : Hp), fX6_keep_108 F d n this x1 h = some r → nd_V l w yX6_keep cX6_keep 2 none 3 68 (.inl none, r) h 108 [(0, vr (some this)), (1, vi x1)] [] := by
  intro n
  induction n with
  | zero => intro _ _ _ _ hf; cases hf
  | succ n ih =>
    intro this x1 k_this h hf
    unfold fX6_keep_108 at hf
    refine nd_iload_n (j := 1) dX6_keep_108 rfl rfl ?_
    refine nd_aload_n (j := 0) dX6_keep_109 rfl rfl ?_
    refine nd_getI (k := 35) dX6_keep_110 k_this rfl (Nat.le_of_ble_eq_true rfl) (nd_flO q1375) rfl ?_
    refine nd_icmp_ge (tgt := 134) dX6_keep_113 (by decide) (fun c1 => ?_) (fun c1 => ?_)
    · replace hf := ifp c1 hf
      cases hf
      exact nd_vret dX6_keep_134
    · replace hf := ifn c1 hf
      refine nd_aload_n (j := 0) dX6_keep_116 rfl rfl ?_
      refine nd_getP (k := 46) dX6_keep_117 k_this rfl (Nat.le_of_ble_eq_true rfl) (nd_flO q1386) rfl (fun ok2 => ?_)
      replace hf := nnE hf
      obtain ⟨a3, e_a3, hf⟩ := hf
      refine nd_topr e_a3.symm ?_
      have k_a3 : nd_Kd a3 = 20 := nd_c1 (ok2 a3 e_a3)
      refine nd_iload_n (j := 1) dX6_keep_120 rfl rfl ?_
      refine nd_aload_n (j := 0) dX6_keep_121 rfl rfl ?_
      refine nd_getP (k := 43) dX6_keep_122 k_this rfl (Nat.le_of_ble_eq_true rfl) (nd_flO q1383) rfl (fun ok4 => ?_)
      replace hf := nnE hf
      obtain ⟨a5, e_a5, hf⟩ := hf
      refine nd_topr e_a5.symm ?_
      have k_a5 : nd_Kd a5 = 20 := nd_c1 (ok4 a5 e_a5)
      refine nd_iload_n (j := 1) dX6_keep_125 rfl rfl ?_
      replace hf := ckE hf
      obtain ⟨c6, hf⟩ := hf
      refine nd_iald dX6_keep_126 k_a5 c6 ?_
      replace hf := ckE hf
      obtain ⟨c7, hf⟩ := hf
      refine nd_iast dX6_keep_127 k_a3 c7 ?_
      replace hf := bnE hf
      obtain ⟨h8, e_h8, hf⟩ := hf
      refine nd_hp e_h8 ?_
      replace hf := bnE hf
      obtain ⟨v9, e_v9, hf⟩ := hf
      refine nd_iinc (v := v9) (j := 1) [(1, vi v9), (0, vr (some this))] dX6_keep_128 rfl (by rw [e_v9]; rfl) (Nat.le_of_ble_eq_true rfl) rfl ?_
      refine nd_goto (tgt := 108) dX6_keep_131 (by decide) ?_
      exact nd_loc [1, 0] rfl (ih _ _ k_this _ hf)
set_option maxHeartbeats 4000000 in
theorem tX6_keep_10 (l : Launch) (w : Wd) (hfl : l.stackTraces = false) (F d : Nat) (r : Hp) : ∀ (n : Nat) (this : Nat) (x1 : Int32) (k_this : nd_Kd this = 5) (h : Hp), fX6_keep_10 F d n this x1 h = some r → nd_V l w yX6_keep cX6_keep 2 none 3 68 (.inl none, r) h 10 [(0, vr (some this)), (1, vi x1)] [] := by
  intro n
  induction n with
  | zero => intro _ _ _ _ hf; cases hf
  | succ n ih =>
    intro this x1 k_this h hf
    unfold fX6_keep_10 at hf
    refine nd_iload_n (j := 1) dX6_keep_10 rfl rfl ?_
    refine nd_aload_n (j := 0) dX6_keep_11 rfl rfl ?_
    refine nd_getI (k := 34) dX6_keep_12 k_this rfl (Nat.le_of_ble_eq_true rfl) (nd_flO q1374) rfl ?_
    refine nd_icmp_ge (tgt := 106) dX6_keep_15 (by decide) (fun c1 => ?_) (fun c1 => ?_)
    · replace hf := ifp c1 hf
      refine nd_iconst (v := 0) dX6_keep_106 (by decide) ?_
      refine nd_istore_n [(1, vi 0), (0, vr (some this))] dX6_keep_107 rfl (Nat.le_of_ble_eq_true rfl) rfl ?_
      exact nd_loc [1, 0] rfl (tX6_keep_108 l w hfl F d r F _ _ k_this _ hf)
    · replace hf := ifn c1 hf
      refine nd_aload_n (j := 0) dX6_keep_18 rfl rfl ?_
      refine nd_getP (k := 45) dX6_keep_19 k_this rfl (Nat.le_of_ble_eq_true rfl) (nd_flO q1385) rfl (fun ok2 => ?_)
      replace hf := nnE hf
      obtain ⟨a3, e_a3, hf⟩ := hf
      refine nd_topr e_a3.symm ?_
      have k_a3 : nd_Kd a3 = 20 := nd_c1 (ok2 a3 e_a3)
      refine nd_iconst (v := 5) dX6_keep_22 (by decide) ?_
      refine nd_iload_n (j := 1) dX6_keep_23 rfl rfl ?_
      refine nd_imul dX6_keep_24 ?_
      refine nd_aload_n (j := 0) dX6_keep_25 rfl rfl ?_
      refine nd_getP (k := 11) dX6_keep_26 k_this rfl (Nat.le_of_ble_eq_true rfl) (nd_flO q1351) rfl (fun ok4 => ?_)
      replace hf := nnE hf
      obtain ⟨a5, e_a5, hf⟩ := hf
      refine nd_topr e_a5.symm ?_
      have k_a5 : nd_Kd a5 = 20 := nd_c1 (ok4 a5 e_a5)
      refine nd_aload_n (j := 0) dX6_keep_29 rfl rfl ?_
      refine nd_iload_n (j := 1) dX6_keep_30 rfl rfl ?_
      replace hf := caE hf
      obtain ⟨v7, h6, e_h6, hf⟩ := hf
      refine nd_Vi [vr (some a5), vi (5 * x1), vr (some a3)] (tX6_baseOf l w hfl F d k_this e_h6) rfl dX6_keep_31 mw_X6_baseOf (Or.inl q1714) k_this rfl q1716 qs67 (by omega) (by omega) (Nat.le_of_ble_eq_true rfl) ?_
      replace hf := ckE hf
      obtain ⟨c8, hf⟩ := hf
      refine nd_iald dX6_keep_34 k_a5 c8 ?_
      replace hf := ckE hf
      obtain ⟨c9, hf⟩ := hf
      refine nd_iast dX6_keep_35 k_a3 c9 ?_
      replace hf := bnE hf
      obtain ⟨h10, e_h10, hf⟩ := hf
      refine nd_hp e_h10 ?_
      refine nd_aload_n (j := 0) dX6_keep_36 rfl rfl ?_
      refine nd_getP (k := 45) dX6_keep_37 k_this rfl (Nat.le_of_ble_eq_true rfl) (nd_flO q1385) rfl (fun ok11 => ?_)
      replace hf := nnE hf
      obtain ⟨a12, e_a12, hf⟩ := hf
      refine nd_topr e_a12.symm ?_
      have k_a12 : nd_Kd a12 = 20 := nd_c1 (ok11 a12 e_a12)
      refine nd_iconst (v := 5) dX6_keep_40 (by decide) ?_
      refine nd_iload_n (j := 1) dX6_keep_41 rfl rfl ?_
      refine nd_imul dX6_keep_42 ?_
      refine nd_iconst (v := 1) dX6_keep_43 (by decide) ?_
      refine nd_iadd dX6_keep_44 ?_
      refine nd_aload_n (j := 0) dX6_keep_45 rfl rfl ?_
      refine nd_getP (k := 37) dX6_keep_46 k_this rfl (Nat.le_of_ble_eq_true rfl) (nd_flO q1377) rfl (fun ok13 => ?_)
      replace hf := nnE hf
      obtain ⟨a14, e_a14, hf⟩ := hf
      refine nd_topr e_a14.symm ?_
      have k_a14 : nd_Kd a14 = 20 := nd_c1 (ok13 a14 e_a14)
      refine nd_iload_n (j := 1) dX6_keep_49 rfl rfl ?_
      replace hf := ckE hf
      obtain ⟨c15, hf⟩ := hf
      refine nd_iald dX6_keep_50 k_a14 c15 ?_
      replace hf := ckE hf
      obtain ⟨c16, hf⟩ := hf
      refine nd_iast dX6_keep_51 k_a12 c16 ?_
      replace hf := bnE hf
      obtain ⟨h17, e_h17, hf⟩ := hf
      refine nd_hp e_h17 ?_
      refine nd_aload_n (j := 0) dX6_keep_52 rfl rfl ?_
      refine nd_getP (k := 45) dX6_keep_53 k_this rfl (Nat.le_of_ble_eq_true rfl) (nd_flO q1385) rfl (fun ok18 => ?_)
      replace hf := nnE hf
      obtain ⟨a19, e_a19, hf⟩ := hf
      refine nd_topr e_a19.symm ?_
      have k_a19 : nd_Kd a19 = 20 := nd_c1 (ok18 a19 e_a19)
      refine nd_iconst (v := 5) dX6_keep_56 (by decide) ?_
      refine nd_iload_n (j := 1) dX6_keep_57 rfl rfl ?_
      refine nd_imul dX6_keep_58 ?_
      refine nd_iconst (v := 2) dX6_keep_59 (by decide) ?_
      refine nd_iadd dX6_keep_60 ?_
      refine nd_aload_n (j := 0) dX6_keep_61 rfl rfl ?_
      refine nd_getP (k := 38) dX6_keep_62 k_this rfl (Nat.le_of_ble_eq_true rfl) (nd_flO q1378) rfl (fun ok20 => ?_)
      replace hf := nnE hf
      obtain ⟨a21, e_a21, hf⟩ := hf
      refine nd_topr e_a21.symm ?_
      have k_a21 : nd_Kd a21 = 20 := nd_c1 (ok20 a21 e_a21)
      refine nd_iload_n (j := 1) dX6_keep_65 rfl rfl ?_
      replace hf := ckE hf
      obtain ⟨c22, hf⟩ := hf
      refine nd_iald dX6_keep_66 k_a21 c22 ?_
      replace hf := ckE hf
      obtain ⟨c23, hf⟩ := hf
      refine nd_iast dX6_keep_67 k_a19 c23 ?_
      replace hf := bnE hf
      obtain ⟨h24, e_h24, hf⟩ := hf
      refine nd_hp e_h24 ?_
      refine nd_aload_n (j := 0) dX6_keep_68 rfl rfl ?_
      refine nd_getP (k := 45) dX6_keep_69 k_this rfl (Nat.le_of_ble_eq_true rfl) (nd_flO q1385) rfl (fun ok25 => ?_)
      replace hf := nnE hf
      obtain ⟨a26, e_a26, hf⟩ := hf
      refine nd_topr e_a26.symm ?_
      have k_a26 : nd_Kd a26 = 20 := nd_c1 (ok25 a26 e_a26)
      refine nd_iconst (v := 5) dX6_keep_72 (by decide) ?_
      refine nd_iload_n (j := 1) dX6_keep_73 rfl rfl ?_
      refine nd_imul dX6_keep_74 ?_
      refine nd_iconst (v := 3) dX6_keep_75 (by decide) ?_
      refine nd_iadd dX6_keep_76 ?_
      refine nd_aload_n (j := 0) dX6_keep_77 rfl rfl ?_
      refine nd_getP (k := 39) dX6_keep_78 k_this rfl (Nat.le_of_ble_eq_true rfl) (nd_flO q1379) rfl (fun ok27 => ?_)
      replace hf := nnE hf
      obtain ⟨a28, e_a28, hf⟩ := hf
      refine nd_topr e_a28.symm ?_
      have k_a28 : nd_Kd a28 = 20 := nd_c1 (ok27 a28 e_a28)
      refine nd_iload_n (j := 1) dX6_keep_81 rfl rfl ?_
      replace hf := ckE hf
      obtain ⟨c29, hf⟩ := hf
      refine nd_iald dX6_keep_82 k_a28 c29 ?_
      replace hf := ckE hf
      obtain ⟨c30, hf⟩ := hf
      refine nd_iast dX6_keep_83 k_a26 c30 ?_
      replace hf := bnE hf
      obtain ⟨h31, e_h31, hf⟩ := hf
      refine nd_hp e_h31 ?_
      refine nd_aload_n (j := 0) dX6_keep_84 rfl rfl ?_
      refine nd_getP (k := 45) dX6_keep_85 k_this rfl (Nat.le_of_ble_eq_true rfl) (nd_flO q1385) rfl (fun ok32 => ?_)
      replace hf := nnE hf
      obtain ⟨a33, e_a33, hf⟩ := hf
      refine nd_topr e_a33.symm ?_
      have k_a33 : nd_Kd a33 = 20 := nd_c1 (ok32 a33 e_a33)
      refine nd_iconst (v := 5) dX6_keep_88 (by decide) ?_
      refine nd_iload_n (j := 1) dX6_keep_89 rfl rfl ?_
      refine nd_imul dX6_keep_90 ?_
      refine nd_iconst (v := 4) dX6_keep_91 (by decide) ?_
      refine nd_iadd dX6_keep_92 ?_
      refine nd_aload_n (j := 0) dX6_keep_93 rfl rfl ?_
      refine nd_getP (k := 40) dX6_keep_94 k_this rfl (Nat.le_of_ble_eq_true rfl) (nd_flO q1380) rfl (fun ok34 => ?_)
      replace hf := nnE hf
      obtain ⟨a35, e_a35, hf⟩ := hf
      refine nd_topr e_a35.symm ?_
      have k_a35 : nd_Kd a35 = 20 := nd_c1 (ok34 a35 e_a35)
      refine nd_iload_n (j := 1) dX6_keep_97 rfl rfl ?_
      replace hf := ckE hf
      obtain ⟨c36, hf⟩ := hf
      refine nd_iald dX6_keep_98 k_a35 c36 ?_
      replace hf := ckE hf
      obtain ⟨c37, hf⟩ := hf
      refine nd_iast dX6_keep_99 k_a33 c37 ?_
      replace hf := bnE hf
      obtain ⟨h38, e_h38, hf⟩ := hf
      refine nd_hp e_h38 ?_
      replace hf := bnE hf
      obtain ⟨v39, e_v39, hf⟩ := hf
      refine nd_iinc (v := v39) (j := 1) [(1, vi v39), (0, vr (some this))] dX6_keep_100 rfl (by rw [e_v39]; rfl) (Nat.le_of_ble_eq_true rfl) rfl ?_
      refine nd_goto (tgt := 10) dX6_keep_103 (by decide) ?_
      exact nd_loc [1, 0] rfl (ih _ _ k_this _ hf)
set_option maxHeartbeats 4000000 in
theorem tX6_keep (l : Launch) (w : Wd) (hfl : l.stackTraces = false) (F d : Nat) {this : Nat} (k_this : nd_Kd this = 5) {h : Hp} {r : Hp} (hf : fX6_keep F d this h = some r) : nd_C l w yX6_keep cX6_keep 2 none 3 68 [vr (some this)] h (.inl none, r) := by
  refine nd_start (as := [vr (some this)]) hfl (by decide) (Nat.le_of_ble_eq_true rfl) ?_
  unfold fX6_keep at hf
  refine nd_eqL (L' := [(0, vr (some this))]) rfl ?_
  refine nd_aload_n (j := 0) dX6_keep_0 rfl rfl ?_
  refine nd_aload_n (j := 0) dX6_keep_1 rfl rfl ?_
  refine nd_getI (k := 34) dX6_keep_2 k_this rfl (Nat.le_of_ble_eq_true rfl) (nd_flO q1374) rfl ?_
  refine nd_putN (k := 44) dX6_keep_5 k_this rfl (Nat.le_of_ble_eq_true rfl) (nd_flO q1384) rfl rfl rfl ?_
  replace hf := bnE hf
  obtain ⟨h1, e_h1, hf⟩ := hf
  refine nd_hp e_h1 ?_
  refine nd_iconst (v := 0) dX6_keep_8 (by decide) ?_
  refine nd_istore_n [(1, vi 0), (0, vr (some this))] dX6_keep_9 rfl (Nat.le_of_ble_eq_true rfl) rfl ?_
  exact nd_loc [1, 0] rfl (tX6_keep_10 l w hfl F d r F _ _ k_this _ hf)
def fX6_transcode_88 (F d : Nat) : Nat → Nat → Int32 → Hp → Option (Int32 × Hp)
  | 0, _, _, _ => none
  | n + 1, this, x4, h =>
    if (gI h 629 this) ≤ x4 then
    (bn (sI h 627 this (gI h 629 this)) fun h2 => (
    some ((gI h2 629 this), h2)))
    else
    (nn (gP h 631 this) fun a4 => (
    nn (gP h 633 this) fun a6 => (
    ck (inb x4 (nd_Ln a6)) (
    ck (inb x4 (nd_Ln a4)) (
    bn (sA h a4 (Int32.toNatClampNeg x4) (gA h a6 (Int32.toNatClampNeg x4))) fun h9 => (
    bn (x4 + 1) fun v10 => (
    fX6_transcode_88 F d n this v10 h9)))))))
def fX6_transcode_25 (F d : Nat) (this : Nat) (x1 : Int32) (x2 : Int32) (x3 : Int32) (s0 : Nat) (s1 : Nat) (s2 : Int32) (h : Hp) : Option (Int32 × Hp) :=
  ca (fX6_asked F d s1 s2 x1 h) fun v2 h1 => (
  bn (sI h1 600 s0 v2) fun h3 => (
  if (gI h3 600 this) ≤ 0 then
  (cv (fX6_load F d this 0 h3) fun h5 => (
  ca (fX6_typeOf F d this x1 h5) fun v8 h7 => (
  ca (fX6_isValue F d this v8 x2 h7) fun v10 h9 => (
  if v10 = 0 then
  (some ((-1), h9))
  else
  (cv (fX6_write F d this x3 h9) fun h12 => (
  if (gI h12 629 this) ≤ 120 then
  (cv (fX6_keep F d this h12) fun h15 => (
  fX6_transcode_88 F d F this 0 h15))
  else
  (ca (fX6_fails F d this 4 h12) fun v18 h17 => (
  some (v18, h17)))))))))
  else
  (some (0, h3))))
def fX6_transcode_24 (F d : Nat) (this : Nat) (x1 : Int32) (x2 : Int32) (x3 : Int32) (s0 : Nat) (s1 : Nat) (h : Hp) : Option (Int32 × Hp) :=
  fX6_transcode_25 F d this x1 x2 x3 s0 s1 0 h
def fX6_transcode (F d : Nat) (this : Nat) (p0 : Int32) (p1 : Int32) (p2 : Int32) (h : Hp) : Option (Int32 × Hp) :=
  ca (fX6_in F d p1 0 2 h) fun v2 h1 => (
  if v2 = 0 then
  (fX6_transcode_24 F d this p0 p1 p2 this this h1)
  else
  (ca (fX6_in F d p2 1 2 h1) fun v5 h4 => (
  if v5 = 0 then
  (fX6_transcode_24 F d this p0 p1 p2 this this h4)
  else
  (fX6_transcode_25 F d this p0 p1 p2 this this 1 h4))))
theorem mw_X6_transcode : nd_MW yX6_transcode cX6_transcode 5 (some .int) 3 := ⟨q1618, q91, by decide, by decide, by decide +kernel⟩
set_option maxHeartbeats 4000000 in
theorem tX6_transcode_88 (l : Launch) (w : Wd) (hfl : l.stackTraces = false) (F d : Nat) (r : Int32 × Hp) : ∀ (n : Nat) (this : Nat) (x4 : Int32) (k_this : nd_Kd this = 5) (h : Hp), fX6_transcode_88 F d n this x4 h = some r → nd_V l w yX6_transcode cX6_transcode 5 (some .int) 8 192 (.inl (some (vi r.1)), r.2) h 88 [(0, vr (some this)), (4, vi x4)] [] := by
  intro n
  induction n with
  | zero => intro _ _ _ _ hf; cases hf
  | succ n ih =>
    intro this x4 k_this h hf
    unfold fX6_transcode_88 at hf
    refine nd_iload (j := 1) dX6_transcode_88 rfl ?_
    refine nd_aload_n (j := 0) dX6_transcode_90 rfl rfl ?_
    refine nd_getI (k := 29) dX6_transcode_91 k_this rfl (Nat.le_of_ble_eq_true rfl) (nd_flO q1369) rfl ?_
    refine nd_icmp_ge (tgt := 117) dX6_transcode_94 (by decide) (fun c1 => ?_) (fun c1 => ?_)
    · replace hf := ifp c1 hf
      refine nd_aload_n (j := 0) dX6_transcode_117 rfl rfl ?_
      refine nd_aload_n (j := 0) dX6_transcode_118 rfl rfl ?_
      refine nd_getI (k := 29) dX6_transcode_119 k_this rfl (Nat.le_of_ble_eq_true rfl) (nd_flO q1369) rfl ?_
      refine nd_putN (k := 27) dX6_transcode_122 k_this rfl (Nat.le_of_ble_eq_true rfl) (nd_flO q1367) rfl rfl rfl ?_
      replace hf := bnE hf
      obtain ⟨h2, e_h2, hf⟩ := hf
      refine nd_hp e_h2 ?_
      refine nd_aload_n (j := 0) dX6_transcode_125 rfl rfl ?_
      refine nd_getI (k := 29) dX6_transcode_126 k_this rfl (Nat.le_of_ble_eq_true rfl) (nd_flO q1369) rfl ?_
      cases hf
      exact nd_iret (v := (gI h2 629 this)) dX6_transcode_129
    · replace hf := ifn c1 hf
      refine nd_aload_n (j := 0) dX6_transcode_97 rfl rfl ?_
      refine nd_getP (k := 31) dX6_transcode_98 k_this rfl (Nat.le_of_ble_eq_true rfl) (nd_flO q1371) rfl (fun ok3 => ?_)
      replace hf := nnE hf
      obtain ⟨a4, e_a4, hf⟩ := hf
      refine nd_topr e_a4.symm ?_
      have k_a4 : nd_Kd a4 = 20 := nd_c1 (ok3 a4 e_a4)
      refine nd_iload (j := 1) dX6_transcode_101 rfl ?_
      refine nd_aload_n (j := 0) dX6_transcode_103 rfl rfl ?_
      refine nd_getP (k := 33) dX6_transcode_104 k_this rfl (Nat.le_of_ble_eq_true rfl) (nd_flO q1373) rfl (fun ok5 => ?_)
      replace hf := nnE hf
      obtain ⟨a6, e_a6, hf⟩ := hf
      refine nd_topr e_a6.symm ?_
      have k_a6 : nd_Kd a6 = 20 := nd_c1 (ok5 a6 e_a6)
      refine nd_iload (j := 1) dX6_transcode_107 rfl ?_
      replace hf := ckE hf
      obtain ⟨c7, hf⟩ := hf
      refine nd_iald dX6_transcode_109 k_a6 c7 ?_
      replace hf := ckE hf
      obtain ⟨c8, hf⟩ := hf
      refine nd_iast dX6_transcode_110 k_a4 c8 ?_
      replace hf := bnE hf
      obtain ⟨h9, e_h9, hf⟩ := hf
      refine nd_hp e_h9 ?_
      replace hf := bnE hf
      obtain ⟨v10, e_v10, hf⟩ := hf
      refine nd_iinc (v := v10) (j := 1) [(4, vi v10), (0, vr (some this))] dX6_transcode_111 rfl (by rw [e_v10]; rfl) (Nat.le_of_ble_eq_true rfl) rfl ?_
      refine nd_goto (tgt := 88) dX6_transcode_114 (by decide) ?_
      exact nd_loc [1, 0] rfl (ih _ _ k_this _ hf)
set_option maxHeartbeats 4000000 in
theorem tX6_transcode_25 (l : Launch) (w : Wd) (hfl : l.stackTraces = false) (F d : Nat) (r : Int32 × Hp) (this : Nat) (x1 : Int32) (x2 : Int32) (x3 : Int32) (s0 : Nat) (s1 : Nat) (s2 : Int32) (k_this : nd_Kd this = 5) (k_s0 : nd_Kd s0 = 5) (k_s1 : nd_Kd s1 = 5) (h : Hp) (hf : fX6_transcode_25 F d this x1 x2 x3 s0 s1 s2 h = some r) : nd_V l w yX6_transcode cX6_transcode 5 (some .int) 8 192 (.inl (some (vi r.1)), r.2) h 25 [(0, vr (some this)), (1, vi x1), (2, vi x2), (3, vi x3)] [vi s2, vr (some s1), vr (some s0)] := by
  unfold fX6_transcode_25 at hf
  refine nd_iload_n (j := 1) dX6_transcode_25 rfl rfl ?_
  replace hf := caE hf
  obtain ⟨v2, h1, e_h1, hf⟩ := hf
  refine nd_Vi [vr (some s0)] (tX6_asked l w hfl F d k_s1 e_h1) rfl dX6_transcode_26 mw_X6_asked (Or.inl q1619) k_s1 rfl q1621 qs46 (by omega) (by omega) (Nat.le_of_ble_eq_true rfl) ?_
  refine nd_putN (k := 0) dX6_transcode_29 k_s0 rfl (Nat.le_of_ble_eq_true rfl) (nd_flO q1340) rfl rfl rfl ?_
  replace hf := bnE hf
  obtain ⟨h3, e_h3, hf⟩ := hf
  refine nd_hp e_h3 ?_
  refine nd_aload_n (j := 0) dX6_transcode_32 rfl rfl ?_
  refine nd_getI (k := 0) dX6_transcode_33 k_this rfl (Nat.le_of_ble_eq_true rfl) (nd_flO q1340) rfl ?_
  refine nd_if_le (tgt := 41) dX6_transcode_36 (by decide) (fun c4 => ?_) (fun c4 => ?_)
  · replace hf := ifp c4 hf
    refine nd_aload_n (j := 0) dX6_transcode_41 rfl rfl ?_
    refine nd_iconst (v := 0) dX6_transcode_42 (by decide) ?_
    replace hf := cvE hf
    obtain ⟨h5, e_h5, hf⟩ := hf
    refine nd_Vv [] (tX6_load l w hfl F d k_this e_h5) rfl dX6_transcode_43 mw_X6_load (Or.inl q1627) k_this rfl q1629 qs48 (by omega) (by omega) (Nat.le_of_ble_eq_true rfl) ?_
    refine nd_aload_n (j := 0) dX6_transcode_46 rfl rfl ?_
    refine nd_aload_n (j := 0) dX6_transcode_47 rfl rfl ?_
    refine nd_iload_n (j := 1) dX6_transcode_48 rfl rfl ?_
    replace hf := caE hf
    obtain ⟨v8, h7, e_h7, hf⟩ := hf
    refine nd_Vi [vr (some this)] (tX6_typeOf l w hfl F d k_this e_h7) rfl dX6_transcode_49 mw_X6_typeOf (Or.inl q1623) k_this rfl q1625 qs47 (by omega) (by omega) (Nat.le_of_ble_eq_true rfl) ?_
    refine nd_iload_n (j := 2) dX6_transcode_52 rfl rfl ?_
    replace hf := caE hf
    obtain ⟨v10, h9, e_h9, hf⟩ := hf
    refine nd_Vi [] (tX6_isValue l w hfl F d k_this e_h9) rfl dX6_transcode_53 mw_X6_isValue (Or.inl q1631) k_this rfl q1633 qs49 (by omega) (by omega) (Nat.le_of_ble_eq_true rfl) ?_
    refine nd_if_ne (tgt := 61) dX6_transcode_56 (by decide) (fun c11 => ?_) (fun c11 => ?_)
    · replace hf := ifn c11 hf
      refine nd_aload_n (j := 0) dX6_transcode_61 rfl rfl ?_
      refine nd_iload_n (j := 3) dX6_transcode_62 rfl rfl ?_
      replace hf := cvE hf
      obtain ⟨h12, e_h12, hf⟩ := hf
      refine nd_Vv [] (tX6_write l w hfl F d k_this e_h12) rfl dX6_transcode_63 mw_X6_write (Or.inl q1734) k_this rfl q1736 qs72 (by omega) (by omega) (Nat.le_of_ble_eq_true rfl) ?_
      refine nd_aload_n (j := 0) dX6_transcode_66 rfl rfl ?_
      refine nd_getI (k := 29) dX6_transcode_67 k_this rfl (Nat.le_of_ble_eq_true rfl) (nd_flO q1369) rfl ?_
      refine nd_bipush (v := 120) dX6_transcode_70 (by decide) ?_
      refine nd_icmp_le (tgt := 81) dX6_transcode_72 (by decide) (fun c14 => ?_) (fun c14 => ?_)
      · replace hf := ifp c14 hf
        refine nd_aload_n (j := 0) dX6_transcode_81 rfl rfl ?_
        replace hf := cvE hf
        obtain ⟨h15, e_h15, hf⟩ := hf
        refine nd_Vv [] (tX6_keep l w hfl F d k_this e_h15) rfl dX6_transcode_82 mw_X6_keep (Or.inl q1778) k_this rfl q1780 qs83 (by omega) (by omega) (Nat.le_of_ble_eq_true rfl) ?_
        refine nd_iconst (v := 0) dX6_transcode_85 (by decide) ?_
        refine nd_istore [(4, vi 0), (0, vr (some this)), (1, vi x1), (2, vi x2), (3, vi x3)] dX6_transcode_86 (Nat.le_of_ble_eq_true rfl) rfl ?_
        exact nd_loc [1, 0] rfl (tX6_transcode_88 l w hfl F d r F _ _ k_this _ hf)
      · replace hf := ifn c14 hf
        refine nd_aload_n (j := 0) dX6_transcode_75 rfl rfl ?_
        refine nd_iconst (v := 4) dX6_transcode_76 (by decide) ?_
        replace hf := caE hf
        obtain ⟨v18, h17, e_h17, hf⟩ := hf
        refine nd_Vi [] (tX6_fails l w hfl F d k_this e_h17) rfl dX6_transcode_77 mw_X6_fails (Or.inl q1774) k_this rfl q1776 qs82 (by omega) (by omega) (Nat.le_of_ble_eq_true rfl) ?_
        cases hf
        exact nd_iret (v := v18) dX6_transcode_80
    · replace hf := ifp c11 hf
      refine nd_iconst (v := (-1)) dX6_transcode_59 (by decide) ?_
      cases hf
      exact nd_iret (v := (-1)) dX6_transcode_60
  · replace hf := ifn c4 hf
    refine nd_iconst (v := 0) dX6_transcode_39 (by decide) ?_
    cases hf
    exact nd_iret (v := 0) dX6_transcode_40
set_option maxHeartbeats 4000000 in
theorem tX6_transcode_24 (l : Launch) (w : Wd) (hfl : l.stackTraces = false) (F d : Nat) (r : Int32 × Hp) (this : Nat) (x1 : Int32) (x2 : Int32) (x3 : Int32) (s0 : Nat) (s1 : Nat) (k_this : nd_Kd this = 5) (k_s0 : nd_Kd s0 = 5) (k_s1 : nd_Kd s1 = 5) (h : Hp) (hf : fX6_transcode_24 F d this x1 x2 x3 s0 s1 h = some r) : nd_V l w yX6_transcode cX6_transcode 5 (some .int) 8 192 (.inl (some (vi r.1)), r.2) h 24 [(0, vr (some this)), (1, vi x1), (2, vi x2), (3, vi x3)] [vr (some s1), vr (some s0)] := by
  unfold fX6_transcode_24 at hf
  refine nd_iconst (v := 0) dX6_transcode_24 (by decide) ?_
  exact nd_loc [0, 1, 2, 3] rfl (tX6_transcode_25 l w hfl F d r _ _ _ _ _ _ _ k_this k_s0 k_s1 _ hf)
set_option maxHeartbeats 4000000 in
theorem tX6_transcode (l : Launch) (w : Wd) (hfl : l.stackTraces = false) (F d : Nat) {this : Nat} {p0 : Int32} {p1 : Int32} {p2 : Int32} (k_this : nd_Kd this = 5) {h : Hp} {r : Int32 × Hp} (hf : fX6_transcode F d this p0 p1 p2 h = some r) : nd_C l w yX6_transcode cX6_transcode 5 (some .int) 8 192 [vr (some this), vi p0, vi p1, vi p2] h (.inl (some (vi r.1)), r.2) := by
  refine nd_start (as := [vr (some this), vi p0, vi p1, vi p2]) hfl (by decide) (Nat.le_of_ble_eq_true rfl) ?_
  unfold fX6_transcode at hf
  refine nd_eqL (L' := [(0, vr (some this)), (1, vi p0), (2, vi p1), (3, vi p2)]) rfl ?_
  refine nd_aload_n (j := 0) dX6_transcode_0 rfl rfl ?_
  refine nd_aload_n (j := 0) dX6_transcode_1 rfl rfl ?_
  refine nd_iload_n (j := 2) dX6_transcode_2 rfl rfl ?_
  refine nd_iconst (v := 0) dX6_transcode_3 (by decide) ?_
  refine nd_iconst (v := 2) dX6_transcode_4 (by decide) ?_
  replace hf := caE hf
  obtain ⟨v2, h1, e_h1, hf⟩ := hf
  refine nd_Si [vr (some this), vr (some this)] (tX6_in l w hfl F d e_h1) rfl dX6_transcode_5 mw_X6_in (Or.inl q1542) q1543 (by omega) (by omega) (Nat.le_of_ble_eq_true rfl) ?_
  refine nd_if_eq (tgt := 24) dX6_transcode_8 (by decide) (fun c3 => ?_) (fun c3 => ?_)
  · replace hf := ifp c3 hf
    exact nd_loc [0, 1, 2, 3] rfl (tX6_transcode_24 l w hfl F d r _ _ _ _ _ _ k_this k_this k_this _ hf)
  · replace hf := ifn c3 hf
    refine nd_iload_n (j := 3) dX6_transcode_11 rfl rfl ?_
    refine nd_iconst (v := 1) dX6_transcode_12 (by decide) ?_
    refine nd_iconst (v := 2) dX6_transcode_13 (by decide) ?_
    replace hf := caE hf
    obtain ⟨v5, h4, e_h4, hf⟩ := hf
    refine nd_Si [vr (some this), vr (some this)] (tX6_in l w hfl F d e_h4) rfl dX6_transcode_14 mw_X6_in (Or.inl q1542) q1543 (by omega) (by omega) (Nat.le_of_ble_eq_true rfl) ?_
    refine nd_if_eq (tgt := 24) dX6_transcode_17 (by decide) (fun c6 => ?_) (fun c6 => ?_)
    · replace hf := ifp c6 hf
      exact nd_loc [0, 1, 2, 3] rfl (tX6_transcode_24 l w hfl F d r _ _ _ _ _ _ k_this k_this k_this _ hf)
    · replace hf := ifn c6 hf
      refine nd_iconst (v := 1) dX6_transcode_20 (by decide) ?_
      refine nd_goto (tgt := 25) dX6_transcode_21 (by decide) ?_
      exact nd_loc [0, 1, 2, 3] rfl (tX6_transcode_25 l w hfl F d r _ _ _ _ _ _ _ k_this k_this k_this _ hf)
def fX6_parts (F d : Nat) (this : Nat) (h : Hp) : Option (Int32 × Hp) :=
  bn (sI h 600 this 0) fun h1 => (
  some ((gI h1 644 this), h1))
theorem mw_X6_parts : nd_MW yX6_parts cX6_parts 1 (some .int) 0 := ⟨q1785, q91, by decide, by decide, by decide +kernel⟩
set_option maxHeartbeats 4000000 in
theorem tX6_parts (l : Launch) (w : Wd) (hfl : l.stackTraces = false) (F d : Nat) {this : Nat} (k_this : nd_Kd this = 5) {h : Hp} {r : Int32 × Hp} (hf : fX6_parts F d this h = some r) : nd_C l w yX6_parts cX6_parts 1 (some .int) 0 0 [vr (some this)] h (.inl (some (vi r.1)), r.2) := by
  refine nd_start (as := [vr (some this)]) hfl (by decide) (Nat.le_of_ble_eq_true rfl) ?_
  unfold fX6_parts at hf
  refine nd_eqL (L' := [(0, vr (some this))]) rfl ?_
  refine nd_aload_n (j := 0) dX6_parts_0 rfl rfl ?_
  refine nd_iconst (v := 0) dX6_parts_1 (by decide) ?_
  refine nd_putN (k := 0) dX6_parts_2 k_this rfl (Nat.le_of_ble_eq_true rfl) (nd_flO q1340) rfl rfl rfl ?_
  replace hf := bnE hf
  obtain ⟨h1, e_h1, hf⟩ := hf
  refine nd_hp e_h1 ?_
  refine nd_aload_n (j := 0) dX6_parts_5 rfl rfl ?_
  refine nd_getI (k := 44) dX6_parts_6 k_this rfl (Nat.le_of_ble_eq_true rfl) (nd_flO q1384) rfl ?_
  cases hf
  exact nd_iret (v := (gI h1 644 this)) dX6_parts_9
def fX6_part_33 (F d : Nat) (this : Nat) (x1 : Int32) (x2 : Int32) (s0 : Nat) (s1 : Int32) (h : Hp) : Option (Int32 × Hp) :=
  bn (sI h 600 s0 s1) fun h1 => (
  if (gI h1 600 this) ≤ 0 then
  (nn (gP h1 645 this) fun a4 => (
  ck (inb ((5 * x1) + x2) (nd_Ln a4)) (
  some ((gA h1 a4 (Int32.toNatClampNeg ((5 * x1) + x2))), h1))))
  else
  (some (0, h1)))
def fX6_part (F d : Nat) (this : Nat) (p0 : Int32) (p1 : Int32) (h : Hp) : Option (Int32 × Hp) :=
  ca (fX6_in F d p1 0 3 h) fun v2 h1 => (
  if v2 = 0 then
  (fX6_part_33 F d this p0 p1 this 1 h1)
  else
  (ca (fX6_in F d p0 0 ((gI h1 644 this) - 1) h1) fun v5 h4 => (
  if v5 = 0 then
  (fX6_part_33 F d this p0 p1 this 2 h4)
  else
  (fX6_part_33 F d this p0 p1 this 0 h4))))
theorem mw_X6_part : nd_MW yX6_part cX6_part 3 (some .int) 2 := ⟨q1789, q91, by decide, by decide, by decide +kernel⟩
set_option maxHeartbeats 4000000 in
theorem tX6_part_33 (l : Launch) (w : Wd) (hfl : l.stackTraces = false) (F d : Nat) (r : Int32 × Hp) (this : Nat) (x1 : Int32) (x2 : Int32) (s0 : Nat) (s1 : Int32) (k_this : nd_Kd this = 5) (k_s0 : nd_Kd s0 = 5) (h : Hp) (hf : fX6_part_33 F d this x1 x2 s0 s1 h = some r) : nd_V l w yX6_part cX6_part 3 (some .int) 1 22 (.inl (some (vi r.1)), r.2) h 33 [(0, vr (some this)), (1, vi x1), (2, vi x2)] [vi s1, vr (some s0)] := by
  unfold fX6_part_33 at hf
  refine nd_putN (k := 0) dX6_part_33 k_s0 rfl (Nat.le_of_ble_eq_true rfl) (nd_flO q1340) rfl rfl rfl ?_
  replace hf := bnE hf
  obtain ⟨h1, e_h1, hf⟩ := hf
  refine nd_hp e_h1 ?_
  refine nd_aload_n (j := 0) dX6_part_36 rfl rfl ?_
  refine nd_getI (k := 0) dX6_part_37 k_this rfl (Nat.le_of_ble_eq_true rfl) (nd_flO q1340) rfl ?_
  refine nd_if_le (tgt := 47) dX6_part_40 (by decide) (fun c2 => ?_) (fun c2 => ?_)
  · replace hf := ifp c2 hf
    refine nd_aload_n (j := 0) dX6_part_47 rfl rfl ?_
    refine nd_getP (k := 45) dX6_part_48 k_this rfl (Nat.le_of_ble_eq_true rfl) (nd_flO q1385) rfl (fun ok3 => ?_)
    replace hf := nnE hf
    obtain ⟨a4, e_a4, hf⟩ := hf
    refine nd_topr e_a4.symm ?_
    have k_a4 : nd_Kd a4 = 20 := nd_c1 (ok3 a4 e_a4)
    refine nd_iconst (v := 5) dX6_part_51 (by decide) ?_
    refine nd_iload_n (j := 1) dX6_part_52 rfl rfl ?_
    refine nd_imul dX6_part_53 ?_
    refine nd_iload_n (j := 2) dX6_part_54 rfl rfl ?_
    refine nd_iadd dX6_part_55 ?_
    replace hf := ckE hf
    obtain ⟨c5, hf⟩ := hf
    refine nd_iald dX6_part_56 k_a4 c5 ?_
    cases hf
    exact nd_iret (v := (gA h1 a4 (Int32.toNatClampNeg ((5 * x1) + x2)))) dX6_part_57
  · replace hf := ifn c2 hf
    refine nd_iconst (v := 0) dX6_part_43 (by decide) ?_
    refine nd_goto (tgt := 57) dX6_part_44 (by decide) ?_
    cases hf
    exact nd_iret (v := 0) dX6_part_57
set_option maxHeartbeats 4000000 in
theorem tX6_part (l : Launch) (w : Wd) (hfl : l.stackTraces = false) (F d : Nat) {this : Nat} {p0 : Int32} {p1 : Int32} (k_this : nd_Kd this = 5) {h : Hp} {r : Int32 × Hp} (hf : fX6_part F d this p0 p1 h = some r) : nd_C l w yX6_part cX6_part 3 (some .int) 1 22 [vr (some this), vi p0, vi p1] h (.inl (some (vi r.1)), r.2) := by
  refine nd_start (as := [vr (some this), vi p0, vi p1]) hfl (by decide) (Nat.le_of_ble_eq_true rfl) ?_
  unfold fX6_part at hf
  refine nd_eqL (L' := [(0, vr (some this)), (1, vi p0), (2, vi p1)]) rfl ?_
  refine nd_aload_n (j := 0) dX6_part_0 rfl rfl ?_
  refine nd_iload_n (j := 2) dX6_part_1 rfl rfl ?_
  refine nd_iconst (v := 0) dX6_part_2 (by decide) ?_
  refine nd_iconst (v := 3) dX6_part_3 (by decide) ?_
  replace hf := caE hf
  obtain ⟨v2, h1, e_h1, hf⟩ := hf
  refine nd_Si [vr (some this)] (tX6_in l w hfl F d e_h1) rfl dX6_part_4 mw_X6_in (Or.inl q1542) q1543 (by omega) (by omega) (Nat.le_of_ble_eq_true rfl) ?_
  refine nd_if_ne (tgt := 14) dX6_part_7 (by decide) (fun c3 => ?_) (fun c3 => ?_)
  · replace hf := ifn c3 hf
    refine nd_iload_n (j := 1) dX6_part_14 rfl rfl ?_
    refine nd_iconst (v := 0) dX6_part_15 (by decide) ?_
    refine nd_aload_n (j := 0) dX6_part_16 rfl rfl ?_
    refine nd_getI (k := 44) dX6_part_17 k_this rfl (Nat.le_of_ble_eq_true rfl) (nd_flO q1384) rfl ?_
    refine nd_iconst (v := 1) dX6_part_20 (by decide) ?_
    refine nd_isub dX6_part_21 ?_
    replace hf := caE hf
    obtain ⟨v5, h4, e_h4, hf⟩ := hf
    refine nd_Si [vr (some this)] (tX6_in l w hfl F d e_h4) rfl dX6_part_22 mw_X6_in (Or.inl q1542) q1543 (by omega) (by omega) (Nat.le_of_ble_eq_true rfl) ?_
    refine nd_if_ne (tgt := 32) dX6_part_25 (by decide) (fun c6 => ?_) (fun c6 => ?_)
    · replace hf := ifn c6 hf
      refine nd_iconst (v := 0) dX6_part_32 (by decide) ?_
      exact nd_loc [0, 1, 2] rfl (tX6_part_33 l w hfl F d r _ _ _ _ _ k_this k_this _ hf)
    · replace hf := ifp c6 hf
      refine nd_iconst (v := 2) dX6_part_28 (by decide) ?_
      refine nd_goto (tgt := 33) dX6_part_29 (by decide) ?_
      exact nd_loc [0, 1, 2] rfl (tX6_part_33 l w hfl F d r _ _ _ _ _ k_this k_this _ hf)
  · replace hf := ifp c3 hf
    refine nd_iconst (v := 1) dX6_part_10 (by decide) ?_
    refine nd_goto (tgt := 33) dX6_part_11 (by decide) ?_
    exact nd_loc [0, 1, 2] rfl (tX6_part_33 l w hfl F d r _ _ _ _ _ k_this k_this _ hf)
def fX6_octet_52 (F d : Nat) (this : Nat) (x1 : Int32) (x2 : Int32) (s0 : Nat) (s1 : Int32) (h : Hp) : Option (Int32 × Hp) :=
  bn (sI h 600 s0 s1) fun h1 => (
  if (gI h1 600 this) ≤ 0 then
  (nn (gP h1 646 this) fun a4 => (
  nn (gP h1 645 this) fun a6 => (
  ck (inb ((5 * x1) + 4) (nd_Ln a6)) (
  ck (inb ((gA h1 a6 (Int32.toNatClampNeg ((5 * x1) + 4))) + x2) (nd_Ln a4)) (
  some ((gA h1 a4 (Int32.toNatClampNeg ((gA h1 a6 (Int32.toNatClampNeg ((5 * x1) + 4))) + x2))), h1))))))
  else
  (some (0, h1)))
def fX6_octet_51 (F d : Nat) (this : Nat) (x1 : Int32) (x2 : Int32) (s0 : Nat) (h : Hp) : Option (Int32 × Hp) :=
  fX6_octet_52 F d this x1 x2 s0 1 h
def fX6_octet (F d : Nat) (this : Nat) (p0 : Int32) (p1 : Int32) (h : Hp) : Option (Int32 × Hp) :=
  ca (fX6_in F d p0 0 ((gI h 644 this) - 1) h) fun v2 h1 => (
  if v2 = 0 then
  (fX6_octet_51 F d this p0 p1 this h1)
  else
  (nn (gP h1 645 this) fun a5 => (
  ck (inb (5 * p0) (nd_Ln a5)) (
  if (gA h1 a5 (Int32.toNatClampNeg (5 * p0))) = 4 then
  (nn (gP h1 645 this) fun a9 => (
  ck (inb ((5 * p0) + 1) (nd_Ln a9)) (
  ca (fX6_in F d p1 0 ((gA h1 a9 (Int32.toNatClampNeg ((5 * p0) + 1))) - 1) h1) fun v12 h11 => (
  if v12 = 0 then
  (fX6_octet_51 F d this p0 p1 this h11)
  else
  (fX6_octet_52 F d this p0 p1 this 0 h11)))))
  else
  (fX6_octet_51 F d this p0 p1 this h1)))))
theorem mw_X6_octet : nd_MW yX6_octet cX6_octet 3 (some .int) 2 := ⟨q1793, q91, by decide, by decide, by decide +kernel⟩
set_option maxHeartbeats 4000000 in
theorem tX6_octet_52 (l : Launch) (w : Wd) (hfl : l.stackTraces = false) (F d : Nat) (r : Int32 × Hp) (this : Nat) (x1 : Int32) (x2 : Int32) (s0 : Nat) (s1 : Int32) (k_this : nd_Kd this = 5) (k_s0 : nd_Kd s0 = 5) (h : Hp) (hf : fX6_octet_52 F d this x1 x2 s0 s1 h = some r) : nd_V l w yX6_octet cX6_octet 3 (some .int) 1 22 (.inl (some (vi r.1)), r.2) h 52 [(0, vr (some this)), (1, vi x1), (2, vi x2)] [vi s1, vr (some s0)] := by
  unfold fX6_octet_52 at hf
  refine nd_putN (k := 0) dX6_octet_52 k_s0 rfl (Nat.le_of_ble_eq_true rfl) (nd_flO q1340) rfl rfl rfl ?_
  replace hf := bnE hf
  obtain ⟨h1, e_h1, hf⟩ := hf
  refine nd_hp e_h1 ?_
  refine nd_aload_n (j := 0) dX6_octet_55 rfl rfl ?_
  refine nd_getI (k := 0) dX6_octet_56 k_this rfl (Nat.le_of_ble_eq_true rfl) (nd_flO q1340) rfl ?_
  refine nd_if_le (tgt := 66) dX6_octet_59 (by decide) (fun c2 => ?_) (fun c2 => ?_)
  · replace hf := ifp c2 hf
    refine nd_aload_n (j := 0) dX6_octet_66 rfl rfl ?_
    refine nd_getP (k := 46) dX6_octet_67 k_this rfl (Nat.le_of_ble_eq_true rfl) (nd_flO q1386) rfl (fun ok3 => ?_)
    replace hf := nnE hf
    obtain ⟨a4, e_a4, hf⟩ := hf
    refine nd_topr e_a4.symm ?_
    have k_a4 : nd_Kd a4 = 20 := nd_c1 (ok3 a4 e_a4)
    refine nd_aload_n (j := 0) dX6_octet_70 rfl rfl ?_
    refine nd_getP (k := 45) dX6_octet_71 k_this rfl (Nat.le_of_ble_eq_true rfl) (nd_flO q1385) rfl (fun ok5 => ?_)
    replace hf := nnE hf
    obtain ⟨a6, e_a6, hf⟩ := hf
    refine nd_topr e_a6.symm ?_
    have k_a6 : nd_Kd a6 = 20 := nd_c1 (ok5 a6 e_a6)
    refine nd_iconst (v := 5) dX6_octet_74 (by decide) ?_
    refine nd_iload_n (j := 1) dX6_octet_75 rfl rfl ?_
    refine nd_imul dX6_octet_76 ?_
    refine nd_iconst (v := 4) dX6_octet_77 (by decide) ?_
    refine nd_iadd dX6_octet_78 ?_
    replace hf := ckE hf
    obtain ⟨c7, hf⟩ := hf
    refine nd_iald dX6_octet_79 k_a6 c7 ?_
    refine nd_iload_n (j := 2) dX6_octet_80 rfl rfl ?_
    refine nd_iadd dX6_octet_81 ?_
    replace hf := ckE hf
    obtain ⟨c8, hf⟩ := hf
    refine nd_iald dX6_octet_82 k_a4 c8 ?_
    cases hf
    exact nd_iret (v := (gA h1 a4 (Int32.toNatClampNeg ((gA h1 a6 (Int32.toNatClampNeg ((5 * x1) + 4))) + x2)))) dX6_octet_83
  · replace hf := ifn c2 hf
    refine nd_iconst (v := 0) dX6_octet_62 (by decide) ?_
    refine nd_goto (tgt := 83) dX6_octet_63 (by decide) ?_
    cases hf
    exact nd_iret (v := 0) dX6_octet_83
set_option maxHeartbeats 4000000 in
theorem tX6_octet_51 (l : Launch) (w : Wd) (hfl : l.stackTraces = false) (F d : Nat) (r : Int32 × Hp) (this : Nat) (x1 : Int32) (x2 : Int32) (s0 : Nat) (k_this : nd_Kd this = 5) (k_s0 : nd_Kd s0 = 5) (h : Hp) (hf : fX6_octet_51 F d this x1 x2 s0 h = some r) : nd_V l w yX6_octet cX6_octet 3 (some .int) 1 22 (.inl (some (vi r.1)), r.2) h 51 [(0, vr (some this)), (1, vi x1), (2, vi x2)] [vr (some s0)] := by
  unfold fX6_octet_51 at hf
  refine nd_iconst (v := 1) dX6_octet_51 (by decide) ?_
  exact nd_loc [0, 1, 2] rfl (tX6_octet_52 l w hfl F d r _ _ _ _ _ k_this k_s0 _ hf)
set_option maxHeartbeats 4000000 in
theorem tX6_octet (l : Launch) (w : Wd) (hfl : l.stackTraces = false) (F d : Nat) {this : Nat} {p0 : Int32} {p1 : Int32} (k_this : nd_Kd this = 5) {h : Hp} {r : Int32 × Hp} (hf : fX6_octet F d this p0 p1 h = some r) : nd_C l w yX6_octet cX6_octet 3 (some .int) 1 22 [vr (some this), vi p0, vi p1] h (.inl (some (vi r.1)), r.2) := by
  refine nd_start (as := [vr (some this), vi p0, vi p1]) hfl (by decide) (Nat.le_of_ble_eq_true rfl) ?_
  unfold fX6_octet at hf
  refine nd_eqL (L' := [(0, vr (some this)), (1, vi p0), (2, vi p1)]) rfl ?_
  refine nd_aload_n (j := 0) dX6_octet_0 rfl rfl ?_
  refine nd_iload_n (j := 1) dX6_octet_1 rfl rfl ?_
  refine nd_iconst (v := 0) dX6_octet_2 (by decide) ?_
  refine nd_aload_n (j := 0) dX6_octet_3 rfl rfl ?_
  refine nd_getI (k := 44) dX6_octet_4 k_this rfl (Nat.le_of_ble_eq_true rfl) (nd_flO q1384) rfl ?_
  refine nd_iconst (v := 1) dX6_octet_7 (by decide) ?_
  refine nd_isub dX6_octet_8 ?_
  replace hf := caE hf
  obtain ⟨v2, h1, e_h1, hf⟩ := hf
  refine nd_Si [vr (some this)] (tX6_in l w hfl F d e_h1) rfl dX6_octet_9 mw_X6_in (Or.inl q1542) q1543 (by omega) (by omega) (Nat.le_of_ble_eq_true rfl) ?_
  refine nd_if_eq (tgt := 51) dX6_octet_12 (by decide) (fun c3 => ?_) (fun c3 => ?_)
  · replace hf := ifp c3 hf
    exact nd_loc [0, 1, 2] rfl (tX6_octet_51 l w hfl F d r _ _ _ _ k_this k_this _ hf)
  · replace hf := ifn c3 hf
    refine nd_aload_n (j := 0) dX6_octet_15 rfl rfl ?_
    refine nd_getP (k := 45) dX6_octet_16 k_this rfl (Nat.le_of_ble_eq_true rfl) (nd_flO q1385) rfl (fun ok4 => ?_)
    replace hf := nnE hf
    obtain ⟨a5, e_a5, hf⟩ := hf
    refine nd_topr e_a5.symm ?_
    have k_a5 : nd_Kd a5 = 20 := nd_c1 (ok4 a5 e_a5)
    refine nd_iconst (v := 5) dX6_octet_19 (by decide) ?_
    refine nd_iload_n (j := 1) dX6_octet_20 rfl rfl ?_
    refine nd_imul dX6_octet_21 ?_
    replace hf := ckE hf
    obtain ⟨c6, hf⟩ := hf
    refine nd_iald dX6_octet_22 k_a5 c6 ?_
    refine nd_iconst (v := 4) dX6_octet_23 (by decide) ?_
    refine nd_icmp_ne (tgt := 51) dX6_octet_24 (by decide) (fun c7 => ?_) (fun c7 => ?_)
    · replace hf := ifn c7 hf
      exact nd_loc [0, 1, 2] rfl (tX6_octet_51 l w hfl F d r _ _ _ _ k_this k_this _ hf)
    · replace hf := ifp c7 hf
      refine nd_iload_n (j := 2) dX6_octet_27 rfl rfl ?_
      refine nd_iconst (v := 0) dX6_octet_28 (by decide) ?_
      refine nd_aload_n (j := 0) dX6_octet_29 rfl rfl ?_
      refine nd_getP (k := 45) dX6_octet_30 k_this rfl (Nat.le_of_ble_eq_true rfl) (nd_flO q1385) rfl (fun ok8 => ?_)
      replace hf := nnE hf
      obtain ⟨a9, e_a9, hf⟩ := hf
      refine nd_topr e_a9.symm ?_
      have k_a9 : nd_Kd a9 = 20 := nd_c1 (ok8 a9 e_a9)
      refine nd_iconst (v := 5) dX6_octet_33 (by decide) ?_
      refine nd_iload_n (j := 1) dX6_octet_34 rfl rfl ?_
      refine nd_imul dX6_octet_35 ?_
      refine nd_iconst (v := 1) dX6_octet_36 (by decide) ?_
      refine nd_iadd dX6_octet_37 ?_
      replace hf := ckE hf
      obtain ⟨c10, hf⟩ := hf
      refine nd_iald dX6_octet_38 k_a9 c10 ?_
      refine nd_iconst (v := 1) dX6_octet_39 (by decide) ?_
      refine nd_isub dX6_octet_40 ?_
      replace hf := caE hf
      obtain ⟨v12, h11, e_h11, hf⟩ := hf
      refine nd_Si [vr (some this)] (tX6_in l w hfl F d e_h11) rfl dX6_octet_41 mw_X6_in (Or.inl q1542) q1543 (by omega) (by omega) (Nat.le_of_ble_eq_true rfl) ?_
      refine nd_if_eq (tgt := 51) dX6_octet_44 (by decide) (fun c13 => ?_) (fun c13 => ?_)
      · replace hf := ifp c13 hf
        exact nd_loc [0, 1, 2] rfl (tX6_octet_51 l w hfl F d r _ _ _ _ k_this k_this _ hf)
      · replace hf := ifn c13 hf
        refine nd_iconst (v := 0) dX6_octet_47 (by decide) ?_
        refine nd_goto (tgt := 52) dX6_octet_48 (by decide) ?_
        exact nd_loc [0, 1, 2] rfl (tX6_octet_52 l w hfl F d r _ _ _ _ _ k_this k_this _ hf)
def fX6_operation_36 (F d : Nat) (this : Nat) (x1 : Int32) (x2 : Int32) (x3 : Int32) (x4 : Int32) (s0 : Nat) (s1 : Nat) (s2 : Int32) (h : Hp) : Option (Hp) :=
  ca (fX6_asked F d s1 s2 x2 h) fun v2 h1 => (
  bn (sI h1 600 s0 v2) fun h3 => (
  if (gI h3 600 this) ≤ 0 then
  (nn (gP h3 655 this) fun a6 => (
  ca (fX6_typeOf F d this x2 h3) fun v8 h7 => (
  ck (inb x1 (nd_Ln a6)) (
  bn (sA h7 a6 (Int32.toNatClampNeg x1) v8) fun h10 => (
  nn (gP h10 656 this) fun a12 => (
  ck (inb x1 (nd_Ln a12)) (
  bn (sA h10 a12 (Int32.toNatClampNeg x1) x3) fun h14 => (
  nn (gP h14 657 this) fun a16 => (
  ck (inb x1 (nd_Ln a16)) (
  bn (sA h14 a16 (Int32.toNatClampNeg x1) x4) fun h18 => (
  some h18)))))))))))
  else
  (some h3)))
def fX6_operation_35 (F d : Nat) (this : Nat) (x1 : Int32) (x2 : Int32) (x3 : Int32) (x4 : Int32) (s0 : Nat) (s1 : Nat) (h : Hp) : Option (Hp) :=
  fX6_operation_36 F d this x1 x2 x3 x4 s0 s1 0 h
def fX6_operation (F d : Nat) (this : Nat) (p0 : Int32) (p1 : Int32) (p2 : Int32) (p3 : Int32) (h : Hp) : Option (Hp) :=
  ca (fX6_in F d p0 0 7 h) fun v2 h1 => (
  if v2 = 0 then
  (fX6_operation_35 F d this p0 p1 p2 p3 this this h1)
  else
  (ca (fX6_in F d p2 0 2 h1) fun v5 h4 => (
  if v5 = 0 then
  (fX6_operation_35 F d this p0 p1 p2 p3 this this h4)
  else
  (ca (fX6_in F d p3 1 2 h4) fun v8 h7 => (
  if v8 = 0 then
  (fX6_operation_35 F d this p0 p1 p2 p3 this this h7)
  else
  (fX6_operation_36 F d this p0 p1 p2 p3 this this 1 h7))))))
theorem mw_X6_operation : nd_MW yX6_operation cX6_operation 5 none 4 := ⟨q1797, q91, by decide, by decide, by decide +kernel⟩
set_option maxHeartbeats 4000000 in
theorem tX6_operation_36 (l : Launch) (w : Wd) (hfl : l.stackTraces = false) (F d : Nat) (r : Hp) (this : Nat) (x1 : Int32) (x2 : Int32) (x3 : Int32) (x4 : Int32) (s0 : Nat) (s1 : Nat) (s2 : Int32) (k_this : nd_Kd this = 5) (k_s0 : nd_Kd s0 = 5) (k_s1 : nd_Kd s1 = 5) (h : Hp) (hf : fX6_operation_36 F d this x1 x2 x3 x4 s0 s1 s2 h = some r) : nd_V l w yX6_operation cX6_operation 5 none 3 65 (.inl none, r) h 36 [(0, vr (some this)), (1, vi x1), (2, vi x2), (3, vi x3), (4, vi x4)] [vi s2, vr (some s1), vr (some s0)] := by
  unfold fX6_operation_36 at hf
  refine nd_iload_n (j := 2) dX6_operation_36 rfl rfl ?_
  replace hf := caE hf
  obtain ⟨v2, h1, e_h1, hf⟩ := hf
  refine nd_Vi [vr (some s0)] (tX6_asked l w hfl F d k_s1 e_h1) rfl dX6_operation_37 mw_X6_asked (Or.inl q1619) k_s1 rfl q1621 qs46 (by omega) (by omega) (Nat.le_of_ble_eq_true rfl) ?_
  refine nd_putN (k := 0) dX6_operation_40 k_s0 rfl (Nat.le_of_ble_eq_true rfl) (nd_flO q1340) rfl rfl rfl ?_
  replace hf := bnE hf
  obtain ⟨h3, e_h3, hf⟩ := hf
  refine nd_hp e_h3 ?_
  refine nd_aload_n (j := 0) dX6_operation_43 rfl rfl ?_
  refine nd_getI (k := 0) dX6_operation_44 k_this rfl (Nat.le_of_ble_eq_true rfl) (nd_flO q1340) rfl ?_
  refine nd_if_le (tgt := 51) dX6_operation_47 (by decide) (fun c4 => ?_) (fun c4 => ?_)
  · replace hf := ifp c4 hf
    refine nd_aload_n (j := 0) dX6_operation_51 rfl rfl ?_
    refine nd_getP (k := 55) dX6_operation_52 k_this rfl (Nat.le_of_ble_eq_true rfl) (nd_flO q1395) rfl (fun ok5 => ?_)
    replace hf := nnE hf
    obtain ⟨a6, e_a6, hf⟩ := hf
    refine nd_topr e_a6.symm ?_
    have k_a6 : nd_Kd a6 = 20 := nd_c1 (ok5 a6 e_a6)
    refine nd_iload_n (j := 1) dX6_operation_55 rfl rfl ?_
    refine nd_aload_n (j := 0) dX6_operation_56 rfl rfl ?_
    refine nd_iload_n (j := 2) dX6_operation_57 rfl rfl ?_
    replace hf := caE hf
    obtain ⟨v8, h7, e_h7, hf⟩ := hf
    refine nd_Vi [vi x1, vr (some a6)] (tX6_typeOf l w hfl F d k_this e_h7) rfl dX6_operation_58 mw_X6_typeOf (Or.inl q1623) k_this rfl q1625 qs47 (by omega) (by omega) (Nat.le_of_ble_eq_true rfl) ?_
    replace hf := ckE hf
    obtain ⟨c9, hf⟩ := hf
    refine nd_iast dX6_operation_61 k_a6 c9 ?_
    replace hf := bnE hf
    obtain ⟨h10, e_h10, hf⟩ := hf
    refine nd_hp e_h10 ?_
    refine nd_aload_n (j := 0) dX6_operation_62 rfl rfl ?_
    refine nd_getP (k := 56) dX6_operation_63 k_this rfl (Nat.le_of_ble_eq_true rfl) (nd_flO q1396) rfl (fun ok11 => ?_)
    replace hf := nnE hf
    obtain ⟨a12, e_a12, hf⟩ := hf
    refine nd_topr e_a12.symm ?_
    have k_a12 : nd_Kd a12 = 20 := nd_c1 (ok11 a12 e_a12)
    refine nd_iload_n (j := 1) dX6_operation_66 rfl rfl ?_
    refine nd_iload_n (j := 3) dX6_operation_67 rfl rfl ?_
    replace hf := ckE hf
    obtain ⟨c13, hf⟩ := hf
    refine nd_iast dX6_operation_68 k_a12 c13 ?_
    replace hf := bnE hf
    obtain ⟨h14, e_h14, hf⟩ := hf
    refine nd_hp e_h14 ?_
    refine nd_aload_n (j := 0) dX6_operation_69 rfl rfl ?_
    refine nd_getP (k := 57) dX6_operation_70 k_this rfl (Nat.le_of_ble_eq_true rfl) (nd_flO q1397) rfl (fun ok15 => ?_)
    replace hf := nnE hf
    obtain ⟨a16, e_a16, hf⟩ := hf
    refine nd_topr e_a16.symm ?_
    have k_a16 : nd_Kd a16 = 20 := nd_c1 (ok15 a16 e_a16)
    refine nd_iload_n (j := 1) dX6_operation_73 rfl rfl ?_
    refine nd_iload (j := 4) dX6_operation_74 rfl ?_
    replace hf := ckE hf
    obtain ⟨c17, hf⟩ := hf
    refine nd_iast dX6_operation_76 k_a16 c17 ?_
    replace hf := bnE hf
    obtain ⟨h18, e_h18, hf⟩ := hf
    refine nd_hp e_h18 ?_
    cases hf
    exact nd_vret dX6_operation_77
  · replace hf := ifn c4 hf
    cases hf
    exact nd_vret dX6_operation_50
set_option maxHeartbeats 4000000 in
theorem tX6_operation_35 (l : Launch) (w : Wd) (hfl : l.stackTraces = false) (F d : Nat) (r : Hp) (this : Nat) (x1 : Int32) (x2 : Int32) (x3 : Int32) (x4 : Int32) (s0 : Nat) (s1 : Nat) (k_this : nd_Kd this = 5) (k_s0 : nd_Kd s0 = 5) (k_s1 : nd_Kd s1 = 5) (h : Hp) (hf : fX6_operation_35 F d this x1 x2 x3 x4 s0 s1 h = some r) : nd_V l w yX6_operation cX6_operation 5 none 3 65 (.inl none, r) h 35 [(0, vr (some this)), (1, vi x1), (2, vi x2), (3, vi x3), (4, vi x4)] [vr (some s1), vr (some s0)] := by
  unfold fX6_operation_35 at hf
  refine nd_iconst (v := 0) dX6_operation_35 (by decide) ?_
  exact nd_loc [0, 1, 2, 3, 4] rfl (tX6_operation_36 l w hfl F d r _ _ _ _ _ _ _ _ k_this k_s0 k_s1 _ hf)
set_option maxHeartbeats 4000000 in
theorem tX6_operation (l : Launch) (w : Wd) (hfl : l.stackTraces = false) (F d : Nat) {this : Nat} {p0 : Int32} {p1 : Int32} {p2 : Int32} {p3 : Int32} (k_this : nd_Kd this = 5) {h : Hp} {r : Hp} (hf : fX6_operation F d this p0 p1 p2 p3 h = some r) : nd_C l w yX6_operation cX6_operation 5 none 3 65 [vr (some this), vi p0, vi p1, vi p2, vi p3] h (.inl none, r) := by
  refine nd_start (as := [vr (some this), vi p0, vi p1, vi p2, vi p3]) hfl (by decide) (Nat.le_of_ble_eq_true rfl) ?_
  unfold fX6_operation at hf
  refine nd_eqL (L' := [(0, vr (some this)), (1, vi p0), (2, vi p1), (3, vi p2), (4, vi p3)]) rfl ?_
  refine nd_aload_n (j := 0) dX6_operation_0 rfl rfl ?_
  refine nd_aload_n (j := 0) dX6_operation_1 rfl rfl ?_
  refine nd_iload_n (j := 1) dX6_operation_2 rfl rfl ?_
  refine nd_iconst (v := 0) dX6_operation_3 (by decide) ?_
  refine nd_bipush (v := 7) dX6_operation_4 (by decide) ?_
  replace hf := caE hf
  obtain ⟨v2, h1, e_h1, hf⟩ := hf
  refine nd_Si [vr (some this), vr (some this)] (tX6_in l w hfl F d e_h1) rfl dX6_operation_6 mw_X6_in (Or.inl q1542) q1543 (by omega) (by omega) (Nat.le_of_ble_eq_true rfl) ?_
  refine nd_if_eq (tgt := 35) dX6_operation_9 (by decide) (fun c3 => ?_) (fun c3 => ?_)
  · replace hf := ifp c3 hf
    exact nd_loc [0, 1, 2, 3, 4] rfl (tX6_operation_35 l w hfl F d r _ _ _ _ _ _ _ k_this k_this k_this _ hf)
  · replace hf := ifn c3 hf
    refine nd_iload_n (j := 3) dX6_operation_12 rfl rfl ?_
    refine nd_iconst (v := 0) dX6_operation_13 (by decide) ?_
    refine nd_iconst (v := 2) dX6_operation_14 (by decide) ?_
    replace hf := caE hf
    obtain ⟨v5, h4, e_h4, hf⟩ := hf
    refine nd_Si [vr (some this), vr (some this)] (tX6_in l w hfl F d e_h4) rfl dX6_operation_15 mw_X6_in (Or.inl q1542) q1543 (by omega) (by omega) (Nat.le_of_ble_eq_true rfl) ?_
    refine nd_if_eq (tgt := 35) dX6_operation_18 (by decide) (fun c6 => ?_) (fun c6 => ?_)
    · replace hf := ifp c6 hf
      exact nd_loc [0, 1, 2, 3, 4] rfl (tX6_operation_35 l w hfl F d r _ _ _ _ _ _ _ k_this k_this k_this _ hf)
    · replace hf := ifn c6 hf
      refine nd_iload (j := 4) dX6_operation_21 rfl ?_
      refine nd_iconst (v := 1) dX6_operation_23 (by decide) ?_
      refine nd_iconst (v := 2) dX6_operation_24 (by decide) ?_
      replace hf := caE hf
      obtain ⟨v8, h7, e_h7, hf⟩ := hf
      refine nd_Si [vr (some this), vr (some this)] (tX6_in l w hfl F d e_h7) rfl dX6_operation_25 mw_X6_in (Or.inl q1542) q1543 (by omega) (by omega) (Nat.le_of_ble_eq_true rfl) ?_
      refine nd_if_eq (tgt := 35) dX6_operation_28 (by decide) (fun c9 => ?_) (fun c9 => ?_)
      · replace hf := ifp c9 hf
        exact nd_loc [0, 1, 2, 3, 4] rfl (tX6_operation_35 l w hfl F d r _ _ _ _ _ _ _ k_this k_this k_this _ hf)
      · replace hf := ifn c9 hf
        refine nd_iconst (v := 1) dX6_operation_31 (by decide) ?_
        refine nd_goto (tgt := 36) dX6_operation_32 (by decide) ?_
        exact nd_loc [0, 1, 2, 3, 4] rfl (tX6_operation_36 l w hfl F d r _ _ _ _ _ _ _ _ k_this k_this k_this _ hf)
def fX6_reply (F d : Nat) (this : Nat) (p0 : Int32) (p1 : Int32) (p2 : Int32) (p3 : Int32) (h : Hp) : Option (Int32 × Hp) :=
  nn (gP h 631 this) fun a2 => (
  ck (inb 0 (nd_Ln a2)) (
  bn (sA h a2 (Int32.toNatClampNeg 0) p0) fun h4 => (
  nn (gP h4 631 this) fun a6 => (
  ck (inb 1 (nd_Ln a6)) (
  bn (sA h4 a6 (Int32.toNatClampNeg 1) p1) fun h8 => (
  nn (gP h8 631 this) fun a10 => (
  ck (inb 2 (nd_Ln a10)) (
  bn (sA h8 a10 (Int32.toNatClampNeg 2) p2) fun h12 => (
  bn (sI h12 627 this p3) fun h13 => (
  some (p0, h13)))))))))))
theorem mw_X6_reply : nd_MW yX6_reply cX6_reply 5 (some .int) 4 := ⟨q1805, q91, by decide, by decide, by decide +kernel⟩
set_option maxHeartbeats 4000000 in
theorem tX6_reply (l : Launch) (w : Wd) (hfl : l.stackTraces = false) (F d : Nat) {this : Nat} {p0 : Int32} {p1 : Int32} {p2 : Int32} {p3 : Int32} (k_this : nd_Kd this = 5) {h : Hp} {r : Int32 × Hp} (hf : fX6_reply F d this p0 p1 p2 p3 h = some r) : nd_C l w yX6_reply cX6_reply 5 (some .int) 0 0 [vr (some this), vi p0, vi p1, vi p2, vi p3] h (.inl (some (vi r.1)), r.2) := by
  refine nd_start (as := [vr (some this), vi p0, vi p1, vi p2, vi p3]) hfl (by decide) (Nat.le_of_ble_eq_true rfl) ?_
  unfold fX6_reply at hf
  refine nd_eqL (L' := [(0, vr (some this)), (1, vi p0), (2, vi p1), (3, vi p2), (4, vi p3)]) rfl ?_
  refine nd_aload_n (j := 0) dX6_reply_0 rfl rfl ?_
  refine nd_getP (k := 31) dX6_reply_1 k_this rfl (Nat.le_of_ble_eq_true rfl) (nd_flO q1371) rfl (fun ok1 => ?_)
  replace hf := nnE hf
  obtain ⟨a2, e_a2, hf⟩ := hf
  refine nd_topr e_a2.symm ?_
  have k_a2 : nd_Kd a2 = 20 := nd_c1 (ok1 a2 e_a2)
  refine nd_iconst (v := 0) dX6_reply_4 (by decide) ?_
  refine nd_iload_n (j := 1) dX6_reply_5 rfl rfl ?_
  replace hf := ckE hf
  obtain ⟨c3, hf⟩ := hf
  refine nd_iast dX6_reply_6 k_a2 c3 ?_
  replace hf := bnE hf
  obtain ⟨h4, e_h4, hf⟩ := hf
  refine nd_hp e_h4 ?_
  refine nd_aload_n (j := 0) dX6_reply_7 rfl rfl ?_
  refine nd_getP (k := 31) dX6_reply_8 k_this rfl (Nat.le_of_ble_eq_true rfl) (nd_flO q1371) rfl (fun ok5 => ?_)
  replace hf := nnE hf
  obtain ⟨a6, e_a6, hf⟩ := hf
  refine nd_topr e_a6.symm ?_
  have k_a6 : nd_Kd a6 = 20 := nd_c1 (ok5 a6 e_a6)
  refine nd_iconst (v := 1) dX6_reply_11 (by decide) ?_
  refine nd_iload_n (j := 2) dX6_reply_12 rfl rfl ?_
  replace hf := ckE hf
  obtain ⟨c7, hf⟩ := hf
  refine nd_iast dX6_reply_13 k_a6 c7 ?_
  replace hf := bnE hf
  obtain ⟨h8, e_h8, hf⟩ := hf
  refine nd_hp e_h8 ?_
  refine nd_aload_n (j := 0) dX6_reply_14 rfl rfl ?_
  refine nd_getP (k := 31) dX6_reply_15 k_this rfl (Nat.le_of_ble_eq_true rfl) (nd_flO q1371) rfl (fun ok9 => ?_)
  replace hf := nnE hf
  obtain ⟨a10, e_a10, hf⟩ := hf
  refine nd_topr e_a10.symm ?_
  have k_a10 : nd_Kd a10 = 20 := nd_c1 (ok9 a10 e_a10)
  refine nd_iconst (v := 2) dX6_reply_18 (by decide) ?_
  refine nd_iload_n (j := 3) dX6_reply_19 rfl rfl ?_
  replace hf := ckE hf
  obtain ⟨c11, hf⟩ := hf
  refine nd_iast dX6_reply_20 k_a10 c11 ?_
  replace hf := bnE hf
  obtain ⟨h12, e_h12, hf⟩ := hf
  refine nd_hp e_h12 ?_
  refine nd_aload_n (j := 0) dX6_reply_21 rfl rfl ?_
  refine nd_iload (j := 4) dX6_reply_22 rfl ?_
  refine nd_putN (k := 27) dX6_reply_24 k_this rfl (Nat.le_of_ble_eq_true rfl) (nd_flO q1367) rfl rfl rfl ?_
  replace hf := bnE hf
  obtain ⟨h13, e_h13, hf⟩ := hf
  refine nd_hp e_h13 ?_
  refine nd_iload_n (j := 1) dX6_reply_27 rfl rfl ?_
  cases hf
  exact nd_iret (v := p0) dX6_reply_28
def fX6_serve_204 (F d : Nat) : Nat → Nat → Int32 → Int32 → Int32 → Hp → Option (Int32 × Hp)
  | 0, _, _, _, _, _ => none
  | n + 1, this, x1, x2, x4, h =>
    if (gI h 629 this) ≤ x4 then
    (ca (fX6_reply F d this 2 x1 x2 ((gI h 629 this) + 3) h) fun v3 h2 => (
    some (v3, h2)))
    else
    (nn (gP h 631 this) fun a5 => (
    nn (gP h 633 this) fun a7 => (
    ck (inb x4 (nd_Ln a7)) (
    ck (inb (3 + x4) (nd_Ln a5)) (
    bn (sA h a5 (Int32.toNatClampNeg (3 + x4)) (gA h a7 (Int32.toNatClampNeg x4))) fun h10 => (
    bn (x4 + 1) fun v11 => (
    fX6_serve_204 F d n this x1 x2 v11 h10)))))))
def fX6_serve_106 (F d : Nat) (this : Nat) (x1 : Int32) (x2 : Int32) (s0 : Int32) (h : Hp) : Option (Int32 × Hp) :=
  if s0 ≤ 0 then
  (cv (fX6_load F d this 3 h) fun h2 => (
  nn (gP h2 655 this) fun a5 => (
  ck (inb x2 (nd_Ln a5)) (
  nn (gP h2 656 this) fun a8 => (
  ck (inb x2 (nd_Ln a8)) (
  ca (fX6_isValue F d this (gA h2 a5 (Int32.toNatClampNeg x2)) (gA h2 a8 (Int32.toNatClampNeg x2)) h2) fun v11 h10 => (
  if v11 = 0 then
  (nn (gP h10 658 this) fun a28 => (
  ck (inb x1 (nd_Ln a28)) (
  bn (sA h10 a28 (Int32.toNatClampNeg x1) 1) fun h30 => (
  ca (fX6_reply F d this 3 x1 0 2 h30) fun v32 h31 => (
  some (v32, h31))))))
  else
  (nn (gP h10 657 this) fun a14 => (
  ck (inb x2 (nd_Ln a14)) (
  cv (fX6_write F d this (gA h10 a14 (Int32.toNatClampNeg x2)) h10) fun h16 => (
  if ((gI h16 629 this) + 3) ≤ 120 then
  (nn (gP h16 658 this) fun a20 => (
  ck (inb x1 (nd_Ln a20)) (
  bn (sA h16 a20 (Int32.toNatClampNeg x1) 1) fun h22 => (
  cv (fX6_keep F d this h22) fun h23 => (
  fX6_serve_204 F d F this x1 x2 0 h23)))))
  else
  (ca (fX6_reply F d this 4 x1 4 3 h16) fun v26 h25 => (
  some (v26, h25))))))))))))))
  else
  (ca (fX6_reply F d this 4 x1 s0 3 h) fun v34 h33 => (
  some (v34, h33)))
def fX6_serve_69 (F d : Nat) (this : Nat) (x1 : Int32) (x2 : Int32) (h : Hp) : Option (Int32 × Hp) :=
  fX6_serve_106 F d this x1 x2 1 h
def fX6_serve_88 (F d : Nat) (this : Nat) (x1 : Int32) (x2 : Int32) (h : Hp) : Option (Int32 × Hp) :=
  fX6_serve_106 F d this x1 x2 2 h
def fX6_serve_43 (F d : Nat) (this : Nat) (s0 : Int32) (h : Hp) : Option (Int32 × Hp) :=
  nn (gP h 631 this) fun a2 => (
  ck (inb 2 (nd_Ln a2)) (
  bn (gA h a2 (Int32.toNatClampNeg 2)) fun v4 => (
  if (gI h 627 this) < 3 then
  (fX6_serve_69 F d this s0 v4 h)
  else
  (nn (gP h 631 this) fun a7 => (
  ck (inb 0 (nd_Ln a7)) (
  if (gA h a7 (Int32.toNatClampNeg 0)) = 1 then
  (if 7 < v4 then
  (fX6_serve_88 F d this s0 v4 h)
  else
  (nn (gP h 655 this) fun a12 => (
  ck (inb v4 (nd_Ln a12)) (
  if 0 ≤ (gA h a12 (Int32.toNatClampNeg v4)) then
  (nn (gP h 658 this) fun a16 => (
  ck (inb s0 (nd_Ln a16)) (
  if (gA h a16 (Int32.toNatClampNeg s0)) = 0 then
  (fX6_serve_106 F d this s0 v4 0 h)
  else
  (fX6_serve_106 F d this s0 v4 3 h))))
  else
  (fX6_serve_88 F d this s0 v4 h)))))
  else
  (fX6_serve_69 F d this s0 v4 h)))))))
def fX6_serve_13 (F d : Nat) (this : Nat) (s0 : Nat) (s1 : Int32) (h : Hp) : Option (Int32 × Hp) :=
  bn (sI h 600 s0 s1) fun h1 => (
  if (gI h1 600 this) ≤ 0 then
  (if (gI h1 627 this) ≤ 1 then
  (fX6_serve_43 F d this 0 h1)
  else
  (nn (gP h1 631 this) fun a5 => (
  ck (inb 1 (nd_Ln a5)) (
  fX6_serve_43 F d this (gA h1 a5 (Int32.toNatClampNeg 1)) h1))))
  else
  (some (0, h1)))
def fX6_serve (F d : Nat) (this : Nat) (h : Hp) : Option (Int32 × Hp) :=
  if (gI h 601 this) = 0 then
  (fX6_serve_13 F d this this 1 h)
  else
  (fX6_serve_13 F d this this 0 h)
theorem mw_X6_serve : nd_MW yX6_serve cX6_serve 5 (some .int) 0 := ⟨q1801, q91, by decide, by decide, by decide +kernel⟩
set_option maxHeartbeats 4000000 in
theorem tX6_serve_204 (l : Launch) (w : Wd) (hfl : l.stackTraces = false) (F d : Nat) (r : Int32 × Hp) : ∀ (n : Nat) (this : Nat) (x1 : Int32) (x2 : Int32) (x4 : Int32) (k_this : nd_Kd this = 5) (h : Hp), fX6_serve_204 F d n this x1 x2 x4 h = some r → nd_V l w yX6_serve cX6_serve 5 (some .int) 8 192 (.inl (some (vi r.1)), r.2) h 204 [(0, vr (some this)), (1, vi x1), (2, vi x2), (4, vi x4)] [] := by
  intro n
  induction n with
  | zero => intro _ _ _ _ _ _ hf; cases hf
  | succ n ih =>
    intro this x1 x2 x4 k_this h hf
    unfold fX6_serve_204 at hf
    refine nd_iload (j := 3) dX6_serve_204 rfl ?_
    refine nd_aload_n (j := 0) dX6_serve_206 rfl rfl ?_
    refine nd_getI (k := 29) dX6_serve_207 k_this rfl (Nat.le_of_ble_eq_true rfl) (nd_flO q1369) rfl ?_
    refine nd_icmp_ge (tgt := 235) dX6_serve_210 (by decide) (fun c1 => ?_) (fun c1 => ?_)
    · replace hf := ifp c1 hf
      refine nd_aload_n (j := 0) dX6_serve_235 rfl rfl ?_
      refine nd_iconst (v := 2) dX6_serve_236 (by decide) ?_
      refine nd_iload_n (j := 1) dX6_serve_237 rfl rfl ?_
      refine nd_iload_n (j := 2) dX6_serve_238 rfl rfl ?_
      refine nd_aload_n (j := 0) dX6_serve_239 rfl rfl ?_
      refine nd_getI (k := 29) dX6_serve_240 k_this rfl (Nat.le_of_ble_eq_true rfl) (nd_flO q1369) rfl ?_
      refine nd_iconst (v := 3) dX6_serve_243 (by decide) ?_
      refine nd_iadd dX6_serve_244 ?_
      replace hf := caE hf
      obtain ⟨v3, h2, e_h2, hf⟩ := hf
      refine nd_Vi [] (tX6_reply l w hfl F d k_this e_h2) rfl dX6_serve_245 mw_X6_reply (Or.inl q1802) k_this rfl q1804 qs84 (by omega) (by omega) (Nat.le_of_ble_eq_true rfl) ?_
      cases hf
      exact nd_iret (v := v3) dX6_serve_248
    · replace hf := ifn c1 hf
      refine nd_aload_n (j := 0) dX6_serve_213 rfl rfl ?_
      refine nd_getP (k := 31) dX6_serve_214 k_this rfl (Nat.le_of_ble_eq_true rfl) (nd_flO q1371) rfl (fun ok4 => ?_)
      replace hf := nnE hf
      obtain ⟨a5, e_a5, hf⟩ := hf
      refine nd_topr e_a5.symm ?_
      have k_a5 : nd_Kd a5 = 20 := nd_c1 (ok4 a5 e_a5)
      refine nd_iconst (v := 3) dX6_serve_217 (by decide) ?_
      refine nd_iload (j := 3) dX6_serve_218 rfl ?_
      refine nd_iadd dX6_serve_220 ?_
      refine nd_aload_n (j := 0) dX6_serve_221 rfl rfl ?_
      refine nd_getP (k := 33) dX6_serve_222 k_this rfl (Nat.le_of_ble_eq_true rfl) (nd_flO q1373) rfl (fun ok6 => ?_)
      replace hf := nnE hf
      obtain ⟨a7, e_a7, hf⟩ := hf
      refine nd_topr e_a7.symm ?_
      have k_a7 : nd_Kd a7 = 20 := nd_c1 (ok6 a7 e_a7)
      refine nd_iload (j := 3) dX6_serve_225 rfl ?_
      replace hf := ckE hf
      obtain ⟨c8, hf⟩ := hf
      refine nd_iald dX6_serve_227 k_a7 c8 ?_
      replace hf := ckE hf
      obtain ⟨c9, hf⟩ := hf
      refine nd_iast dX6_serve_228 k_a5 c9 ?_
      replace hf := bnE hf
      obtain ⟨h10, e_h10, hf⟩ := hf
      refine nd_hp e_h10 ?_
      replace hf := bnE hf
      obtain ⟨v11, e_v11, hf⟩ := hf
      refine nd_iinc (v := v11) (j := 3) [(4, vi v11), (0, vr (some this)), (1, vi x1), (2, vi x2)] dX6_serve_229 rfl (by rw [e_v11]; rfl) (Nat.le_of_ble_eq_true rfl) rfl ?_
      refine nd_goto (tgt := 204) dX6_serve_232 (by decide) ?_
      exact nd_loc [1, 2, 3, 0] rfl (ih _ _ _ _ k_this _ hf)
set_option maxHeartbeats 4000000 in
theorem tX6_serve_106 (l : Launch) (w : Wd) (hfl : l.stackTraces = false) (F d : Nat) (r : Int32 × Hp) (this : Nat) (x1 : Int32) (x2 : Int32) (s0 : Int32) (k_this : nd_Kd this = 5) (h : Hp) (hf : fX6_serve_106 F d this x1 x2 s0 h = some r) : nd_V l w yX6_serve cX6_serve 5 (some .int) 8 192 (.inl (some (vi r.1)), r.2) h 106 [(0, vr (some this)), (1, vi x1), (2, vi x2)] [vi s0] := by
  unfold fX6_serve_106 at hf
  refine nd_istore_n [(3, vi s0), (0, vr (some this)), (1, vi x1), (2, vi x2)] dX6_serve_106 rfl (Nat.le_of_ble_eq_true rfl) rfl ?_
  refine nd_iload_n (j := 0) dX6_serve_107 rfl rfl ?_
  refine nd_if_le (tgt := 120) dX6_serve_108 (by decide) (fun c1 => ?_) (fun c1 => ?_)
  · replace hf := ifp c1 hf
    refine nd_aload_n (j := 1) dX6_serve_120 rfl rfl ?_
    refine nd_iconst (v := 3) dX6_serve_121 (by decide) ?_
    replace hf := cvE hf
    obtain ⟨h2, e_h2, hf⟩ := hf
    refine nd_Vv [] (tX6_load l w hfl F d k_this e_h2) rfl dX6_serve_122 mw_X6_load (Or.inl q1627) k_this rfl q1629 qs48 (by omega) (by omega) (Nat.le_of_ble_eq_true rfl) ?_
    refine nd_aload_n (j := 1) dX6_serve_125 rfl rfl ?_
    refine nd_aload_n (j := 1) dX6_serve_126 rfl rfl ?_
    refine nd_getP (k := 55) dX6_serve_127 k_this rfl (Nat.le_of_ble_eq_true rfl) (nd_flO q1395) rfl (fun ok4 => ?_)
    replace hf := nnE hf
    obtain ⟨a5, e_a5, hf⟩ := hf
    refine nd_topr e_a5.symm ?_
    have k_a5 : nd_Kd a5 = 20 := nd_c1 (ok4 a5 e_a5)
    refine nd_iload_n (j := 3) dX6_serve_130 rfl rfl ?_
    replace hf := ckE hf
    obtain ⟨c6, hf⟩ := hf
    refine nd_iald dX6_serve_131 k_a5 c6 ?_
    refine nd_aload_n (j := 1) dX6_serve_132 rfl rfl ?_
    refine nd_getP (k := 56) dX6_serve_133 k_this rfl (Nat.le_of_ble_eq_true rfl) (nd_flO q1396) rfl (fun ok7 => ?_)
    replace hf := nnE hf
    obtain ⟨a8, e_a8, hf⟩ := hf
    refine nd_topr e_a8.symm ?_
    have k_a8 : nd_Kd a8 = 20 := nd_c1 (ok7 a8 e_a8)
    refine nd_iload_n (j := 3) dX6_serve_136 rfl rfl ?_
    replace hf := ckE hf
    obtain ⟨c9, hf⟩ := hf
    refine nd_iald dX6_serve_137 k_a8 c9 ?_
    replace hf := caE hf
    obtain ⟨v11, h10, e_h10, hf⟩ := hf
    refine nd_Vi [] (tX6_isValue l w hfl F d k_this e_h10) rfl dX6_serve_138 mw_X6_isValue (Or.inl q1631) k_this rfl q1633 qs49 (by omega) (by omega) (Nat.le_of_ble_eq_true rfl) ?_
    refine nd_if_ne (tgt := 160) dX6_serve_141 (by decide) (fun c12 => ?_) (fun c12 => ?_)
    · replace hf := ifn c12 hf
      refine nd_aload_n (j := 1) dX6_serve_160 rfl rfl ?_
      refine nd_aload_n (j := 1) dX6_serve_161 rfl rfl ?_
      refine nd_getP (k := 57) dX6_serve_162 k_this rfl (Nat.le_of_ble_eq_true rfl) (nd_flO q1397) rfl (fun ok13 => ?_)
      replace hf := nnE hf
      obtain ⟨a14, e_a14, hf⟩ := hf
      refine nd_topr e_a14.symm ?_
      have k_a14 : nd_Kd a14 = 20 := nd_c1 (ok13 a14 e_a14)
      refine nd_iload_n (j := 3) dX6_serve_165 rfl rfl ?_
      replace hf := ckE hf
      obtain ⟨c15, hf⟩ := hf
      refine nd_iald dX6_serve_166 k_a14 c15 ?_
      replace hf := cvE hf
      obtain ⟨h16, e_h16, hf⟩ := hf
      refine nd_Vv [] (tX6_write l w hfl F d k_this e_h16) rfl dX6_serve_167 mw_X6_write (Or.inl q1734) k_this rfl q1736 qs72 (by omega) (by omega) (Nat.le_of_ble_eq_true rfl) ?_
      refine nd_aload_n (j := 1) dX6_serve_170 rfl rfl ?_
      refine nd_getI (k := 29) dX6_serve_171 k_this rfl (Nat.le_of_ble_eq_true rfl) (nd_flO q1369) rfl ?_
      refine nd_iconst (v := 3) dX6_serve_174 (by decide) ?_
      refine nd_iadd dX6_serve_175 ?_
      refine nd_bipush (v := 120) dX6_serve_176 (by decide) ?_
      refine nd_icmp_le (tgt := 190) dX6_serve_178 (by decide) (fun c18 => ?_) (fun c18 => ?_)
      · replace hf := ifp c18 hf
        refine nd_aload_n (j := 1) dX6_serve_190 rfl rfl ?_
        refine nd_getP (k := 58) dX6_serve_191 k_this rfl (Nat.le_of_ble_eq_true rfl) (nd_flO q1398) rfl (fun ok19 => ?_)
        replace hf := nnE hf
        obtain ⟨a20, e_a20, hf⟩ := hf
        refine nd_topr e_a20.symm ?_
        have k_a20 : nd_Kd a20 = 22 := nd_c1 (ok19 a20 e_a20)
        refine nd_iload_n (j := 2) dX6_serve_194 rfl rfl ?_
        refine nd_iconst (v := 1) dX6_serve_195 (by decide) ?_
        replace hf := ckE hf
        obtain ⟨c21, hf⟩ := hf
        refine nd_zast dX6_serve_196 k_a20 c21 (by decide) ?_
        replace hf := bnE hf
        obtain ⟨h22, e_h22, hf⟩ := hf
        refine nd_hp e_h22 ?_
        refine nd_aload_n (j := 1) dX6_serve_197 rfl rfl ?_
        replace hf := cvE hf
        obtain ⟨h23, e_h23, hf⟩ := hf
        refine nd_Vv [] (tX6_keep l w hfl F d k_this e_h23) rfl dX6_serve_198 mw_X6_keep (Or.inl q1778) k_this rfl q1780 qs83 (by omega) (by omega) (Nat.le_of_ble_eq_true rfl) ?_
        refine nd_iconst (v := 0) dX6_serve_201 (by decide) ?_
        refine nd_istore [(4, vi 0), (3, vi s0), (0, vr (some this)), (1, vi x1), (2, vi x2)] dX6_serve_202 (Nat.le_of_ble_eq_true rfl) rfl ?_
        exact nd_loc [2, 3, 4, 0] rfl (tX6_serve_204 l w hfl F d r F _ _ _ _ k_this _ hf)
      · replace hf := ifn c18 hf
        refine nd_aload_n (j := 1) dX6_serve_181 rfl rfl ?_
        refine nd_iconst (v := 4) dX6_serve_182 (by decide) ?_
        refine nd_iload_n (j := 2) dX6_serve_183 rfl rfl ?_
        refine nd_iconst (v := 4) dX6_serve_184 (by decide) ?_
        refine nd_iconst (v := 3) dX6_serve_185 (by decide) ?_
        replace hf := caE hf
        obtain ⟨v26, h25, e_h25, hf⟩ := hf
        refine nd_Vi [] (tX6_reply l w hfl F d k_this e_h25) rfl dX6_serve_186 mw_X6_reply (Or.inl q1802) k_this rfl q1804 qs84 (by omega) (by omega) (Nat.le_of_ble_eq_true rfl) ?_
        cases hf
        exact nd_iret (v := v26) dX6_serve_189
    · replace hf := ifp c12 hf
      refine nd_aload_n (j := 1) dX6_serve_144 rfl rfl ?_
      refine nd_getP (k := 58) dX6_serve_145 k_this rfl (Nat.le_of_ble_eq_true rfl) (nd_flO q1398) rfl (fun ok27 => ?_)
      replace hf := nnE hf
      obtain ⟨a28, e_a28, hf⟩ := hf
      refine nd_topr e_a28.symm ?_
      have k_a28 : nd_Kd a28 = 22 := nd_c1 (ok27 a28 e_a28)
      refine nd_iload_n (j := 2) dX6_serve_148 rfl rfl ?_
      refine nd_iconst (v := 1) dX6_serve_149 (by decide) ?_
      replace hf := ckE hf
      obtain ⟨c29, hf⟩ := hf
      refine nd_zast dX6_serve_150 k_a28 c29 (by decide) ?_
      replace hf := bnE hf
      obtain ⟨h30, e_h30, hf⟩ := hf
      refine nd_hp e_h30 ?_
      refine nd_aload_n (j := 1) dX6_serve_151 rfl rfl ?_
      refine nd_iconst (v := 3) dX6_serve_152 (by decide) ?_
      refine nd_iload_n (j := 2) dX6_serve_153 rfl rfl ?_
      refine nd_iconst (v := 0) dX6_serve_154 (by decide) ?_
      refine nd_iconst (v := 2) dX6_serve_155 (by decide) ?_
      replace hf := caE hf
      obtain ⟨v32, h31, e_h31, hf⟩ := hf
      refine nd_Vi [] (tX6_reply l w hfl F d k_this e_h31) rfl dX6_serve_156 mw_X6_reply (Or.inl q1802) k_this rfl q1804 qs84 (by omega) (by omega) (Nat.le_of_ble_eq_true rfl) ?_
      cases hf
      exact nd_iret (v := v32) dX6_serve_159
  · replace hf := ifn c1 hf
    refine nd_aload_n (j := 1) dX6_serve_111 rfl rfl ?_
    refine nd_iconst (v := 4) dX6_serve_112 (by decide) ?_
    refine nd_iload_n (j := 2) dX6_serve_113 rfl rfl ?_
    refine nd_iload_n (j := 0) dX6_serve_114 rfl rfl ?_
    refine nd_iconst (v := 3) dX6_serve_115 (by decide) ?_
    replace hf := caE hf
    obtain ⟨v34, h33, e_h33, hf⟩ := hf
    refine nd_Vi [] (tX6_reply l w hfl F d k_this e_h33) rfl dX6_serve_116 mw_X6_reply (Or.inl q1802) k_this rfl q1804 qs84 (by omega) (by omega) (Nat.le_of_ble_eq_true rfl) ?_
    cases hf
    exact nd_iret (v := v34) dX6_serve_119
set_option maxHeartbeats 4000000 in
theorem tX6_serve_69 (l : Launch) (w : Wd) (hfl : l.stackTraces = false) (F d : Nat) (r : Int32 × Hp) (this : Nat) (x1 : Int32) (x2 : Int32) (k_this : nd_Kd this = 5) (h : Hp) (hf : fX6_serve_69 F d this x1 x2 h = some r) : nd_V l w yX6_serve cX6_serve 5 (some .int) 8 192 (.inl (some (vi r.1)), r.2) h 69 [(0, vr (some this)), (1, vi x1), (2, vi x2)] [] := by
  unfold fX6_serve_69 at hf
  refine nd_iconst (v := 1) dX6_serve_69 (by decide) ?_
  refine nd_goto (tgt := 106) dX6_serve_70 (by decide) ?_
  exact nd_loc [0, 1, 2] rfl (tX6_serve_106 l w hfl F d r _ _ _ _ k_this _ hf)
set_option maxHeartbeats 4000000 in
theorem tX6_serve_88 (l : Launch) (w : Wd) (hfl : l.stackTraces = false) (F d : Nat) (r : Int32 × Hp) (this : Nat) (x1 : Int32) (x2 : Int32) (k_this : nd_Kd this = 5) (h : Hp) (hf : fX6_serve_88 F d this x1 x2 h = some r) : nd_V l w yX6_serve cX6_serve 5 (some .int) 8 192 (.inl (some (vi r.1)), r.2) h 88 [(0, vr (some this)), (1, vi x1), (2, vi x2)] [] := by
  unfold fX6_serve_88 at hf
  refine nd_iconst (v := 2) dX6_serve_88 (by decide) ?_
  refine nd_goto (tgt := 106) dX6_serve_89 (by decide) ?_
  exact nd_loc [0, 1, 2] rfl (tX6_serve_106 l w hfl F d r _ _ _ _ k_this _ hf)
set_option maxHeartbeats 4000000 in
theorem tX6_serve_43 (l : Launch) (w : Wd) (hfl : l.stackTraces = false) (F d : Nat) (r : Int32 × Hp) (this : Nat) (s0 : Int32) (k_this : nd_Kd this = 5) (h : Hp) (hf : fX6_serve_43 F d this s0 h = some r) : nd_V l w yX6_serve cX6_serve 5 (some .int) 8 192 (.inl (some (vi r.1)), r.2) h 43 [(0, vr (some this))] [vi s0] := by
  unfold fX6_serve_43 at hf
  refine nd_istore_n [(1, vi s0), (0, vr (some this))] dX6_serve_43 rfl (Nat.le_of_ble_eq_true rfl) rfl ?_
  refine nd_aload_n (j := 1) dX6_serve_44 rfl rfl ?_
  refine nd_getP (k := 31) dX6_serve_45 k_this rfl (Nat.le_of_ble_eq_true rfl) (nd_flO q1371) rfl (fun ok1 => ?_)
  replace hf := nnE hf
  obtain ⟨a2, e_a2, hf⟩ := hf
  refine nd_topr e_a2.symm ?_
  have k_a2 : nd_Kd a2 = 20 := nd_c1 (ok1 a2 e_a2)
  refine nd_iconst (v := 2) dX6_serve_48 (by decide) ?_
  replace hf := ckE hf
  obtain ⟨c3, hf⟩ := hf
  refine nd_iald dX6_serve_49 k_a2 c3 ?_
  replace hf := bnE hf
  obtain ⟨v4, e_v4, hf⟩ := hf
  refine nd_top e_v4 ?_
  refine nd_istore_n [(2, vi v4), (1, vi s0), (0, vr (some this))] dX6_serve_50 rfl (Nat.le_of_ble_eq_true rfl) rfl ?_
  refine nd_aload_n (j := 2) dX6_serve_51 rfl rfl ?_
  refine nd_getI (k := 27) dX6_serve_52 k_this rfl (Nat.le_of_ble_eq_true rfl) (nd_flO q1367) rfl ?_
  refine nd_iconst (v := 3) dX6_serve_55 (by decide) ?_
  refine nd_icmp_lt (tgt := 69) dX6_serve_56 (by decide) (fun c5 => ?_) (fun c5 => ?_)
  · replace hf := ifp c5 hf
    exact nd_loc [2, 1, 0] rfl (tX6_serve_69 l w hfl F d r _ _ _ k_this _ hf)
  · replace hf := ifn c5 hf
    refine nd_aload_n (j := 2) dX6_serve_59 rfl rfl ?_
    refine nd_getP (k := 31) dX6_serve_60 k_this rfl (Nat.le_of_ble_eq_true rfl) (nd_flO q1371) rfl (fun ok6 => ?_)
    replace hf := nnE hf
    obtain ⟨a7, e_a7, hf⟩ := hf
    refine nd_topr e_a7.symm ?_
    have k_a7 : nd_Kd a7 = 20 := nd_c1 (ok6 a7 e_a7)
    refine nd_iconst (v := 0) dX6_serve_63 (by decide) ?_
    replace hf := ckE hf
    obtain ⟨c8, hf⟩ := hf
    refine nd_iald dX6_serve_64 k_a7 c8 ?_
    refine nd_iconst (v := 1) dX6_serve_65 (by decide) ?_
    refine nd_icmp_eq (tgt := 73) dX6_serve_66 (by decide) (fun c9 => ?_) (fun c9 => ?_)
    · replace hf := ifp c9 hf
      refine nd_iload_n (j := 0) dX6_serve_73 rfl rfl ?_
      refine nd_bipush (v := 7) dX6_serve_74 (by decide) ?_
      refine nd_icmp_gt (tgt := 88) dX6_serve_76 (by decide) (fun c10 => ?_) (fun c10 => ?_)
      · replace hf := ifp c10 hf
        exact nd_loc [2, 1, 0] rfl (tX6_serve_88 l w hfl F d r _ _ _ k_this _ hf)
      · replace hf := ifn c10 hf
        refine nd_aload_n (j := 2) dX6_serve_79 rfl rfl ?_
        refine nd_getP (k := 55) dX6_serve_80 k_this rfl (Nat.le_of_ble_eq_true rfl) (nd_flO q1395) rfl (fun ok11 => ?_)
        replace hf := nnE hf
        obtain ⟨a12, e_a12, hf⟩ := hf
        refine nd_topr e_a12.symm ?_
        have k_a12 : nd_Kd a12 = 20 := nd_c1 (ok11 a12 e_a12)
        refine nd_iload_n (j := 0) dX6_serve_83 rfl rfl ?_
        replace hf := ckE hf
        obtain ⟨c13, hf⟩ := hf
        refine nd_iald dX6_serve_84 k_a12 c13 ?_
        refine nd_if_ge (tgt := 92) dX6_serve_85 (by decide) (fun c14 => ?_) (fun c14 => ?_)
        · replace hf := ifp c14 hf
          refine nd_aload_n (j := 2) dX6_serve_92 rfl rfl ?_
          refine nd_getP (k := 58) dX6_serve_93 k_this rfl (Nat.le_of_ble_eq_true rfl) (nd_flO q1398) rfl (fun ok15 => ?_)
          replace hf := nnE hf
          obtain ⟨a16, e_a16, hf⟩ := hf
          refine nd_topr e_a16.symm ?_
          have k_a16 : nd_Kd a16 = 22 := nd_c1 (ok15 a16 e_a16)
          refine nd_iload_n (j := 1) dX6_serve_96 rfl rfl ?_
          replace hf := ckE hf
          obtain ⟨c17, hf⟩ := hf
          refine nd_zald dX6_serve_97 k_a16 c17 ?_
          refine nd_if_eq (tgt := 105) dX6_serve_98 (by decide) (fun c18 => ?_) (fun c18 => ?_)
          · replace hf := ifp c18 hf
            refine nd_iconst (v := 0) dX6_serve_105 (by decide) ?_
            exact nd_loc [2, 1, 0] rfl (tX6_serve_106 l w hfl F d r _ _ _ _ k_this _ hf)
          · replace hf := ifn c18 hf
            refine nd_iconst (v := 3) dX6_serve_101 (by decide) ?_
            refine nd_goto (tgt := 106) dX6_serve_102 (by decide) ?_
            exact nd_loc [2, 1, 0] rfl (tX6_serve_106 l w hfl F d r _ _ _ _ k_this _ hf)
        · replace hf := ifn c14 hf
          exact nd_loc [2, 1, 0] rfl (tX6_serve_88 l w hfl F d r _ _ _ k_this _ hf)
    · replace hf := ifn c9 hf
      exact nd_loc [2, 1, 0] rfl (tX6_serve_69 l w hfl F d r _ _ _ k_this _ hf)
set_option maxHeartbeats 4000000 in
theorem tX6_serve_13 (l : Launch) (w : Wd) (hfl : l.stackTraces = false) (F d : Nat) (r : Int32 × Hp) (this : Nat) (s0 : Nat) (s1 : Int32) (k_this : nd_Kd this = 5) (k_s0 : nd_Kd s0 = 5) (h : Hp) (hf : fX6_serve_13 F d this s0 s1 h = some r) : nd_V l w yX6_serve cX6_serve 5 (some .int) 8 192 (.inl (some (vi r.1)), r.2) h 13 [(0, vr (some this))] [vi s1, vr (some s0)] := by
  unfold fX6_serve_13 at hf
  refine nd_putN (k := 0) dX6_serve_13 k_s0 rfl (Nat.le_of_ble_eq_true rfl) (nd_flO q1340) rfl rfl rfl ?_
  replace hf := bnE hf
  obtain ⟨h1, e_h1, hf⟩ := hf
  refine nd_hp e_h1 ?_
  refine nd_aload_n (j := 0) dX6_serve_16 rfl rfl ?_
  refine nd_getI (k := 0) dX6_serve_17 k_this rfl (Nat.le_of_ble_eq_true rfl) (nd_flO q1340) rfl ?_
  refine nd_if_le (tgt := 25) dX6_serve_20 (by decide) (fun c2 => ?_) (fun c2 => ?_)
  · replace hf := ifp c2 hf
    refine nd_aload_n (j := 0) dX6_serve_25 rfl rfl ?_
    refine nd_getI (k := 27) dX6_serve_26 k_this rfl (Nat.le_of_ble_eq_true rfl) (nd_flO q1367) rfl ?_
    refine nd_iconst (v := 1) dX6_serve_29 (by decide) ?_
    refine nd_icmp_le (tgt := 42) dX6_serve_30 (by decide) (fun c3 => ?_) (fun c3 => ?_)
    · replace hf := ifp c3 hf
      refine nd_iconst (v := 0) dX6_serve_42 (by decide) ?_
      exact nd_loc [0] rfl (tX6_serve_43 l w hfl F d r _ _ k_this _ hf)
    · replace hf := ifn c3 hf
      refine nd_aload_n (j := 0) dX6_serve_33 rfl rfl ?_
      refine nd_getP (k := 31) dX6_serve_34 k_this rfl (Nat.le_of_ble_eq_true rfl) (nd_flO q1371) rfl (fun ok4 => ?_)
      replace hf := nnE hf
      obtain ⟨a5, e_a5, hf⟩ := hf
      refine nd_topr e_a5.symm ?_
      have k_a5 : nd_Kd a5 = 20 := nd_c1 (ok4 a5 e_a5)
      refine nd_iconst (v := 1) dX6_serve_37 (by decide) ?_
      replace hf := ckE hf
      obtain ⟨c6, hf⟩ := hf
      refine nd_iald dX6_serve_38 k_a5 c6 ?_
      refine nd_goto (tgt := 43) dX6_serve_39 (by decide) ?_
      exact nd_loc [0] rfl (tX6_serve_43 l w hfl F d r _ _ k_this _ hf)
  · replace hf := ifn c2 hf
    refine nd_iconst (v := 0) dX6_serve_23 (by decide) ?_
    cases hf
    exact nd_iret (v := 0) dX6_serve_24
set_option maxHeartbeats 4000000 in
theorem tX6_serve (l : Launch) (w : Wd) (hfl : l.stackTraces = false) (F d : Nat) {this : Nat} (k_this : nd_Kd this = 5) {h : Hp} {r : Int32 × Hp} (hf : fX6_serve F d this h = some r) : nd_C l w yX6_serve cX6_serve 5 (some .int) 8 192 [vr (some this)] h (.inl (some (vi r.1)), r.2) := by
  refine nd_start (as := [vr (some this)]) hfl (by decide) (Nat.le_of_ble_eq_true rfl) ?_
  unfold fX6_serve at hf
  refine nd_eqL (L' := [(0, vr (some this))]) rfl ?_
  refine nd_aload_n (j := 0) dX6_serve_0 rfl rfl ?_
  refine nd_aload_n (j := 0) dX6_serve_1 rfl rfl ?_
  refine nd_getI (k := 1) dX6_serve_2 k_this rfl (Nat.le_of_ble_eq_true rfl) (nd_flO q1341) rfl ?_
  refine nd_if_eq (tgt := 12) dX6_serve_5 (by decide) (fun c1 => ?_) (fun c1 => ?_)
  · replace hf := ifp c1 hf
    refine nd_iconst (v := 1) dX6_serve_12 (by decide) ?_
    exact nd_loc [0] rfl (tX6_serve_13 l w hfl F d r _ _ _ k_this k_this _ hf)
  · replace hf := ifn c1 hf
    refine nd_iconst (v := 0) dX6_serve_8 (by decide) ?_
    refine nd_goto (tgt := 13) dX6_serve_9 (by decide) ?_
    exact nd_loc [0] rfl (tX6_serve_13 l w hfl F d r _ _ _ k_this k_this _ hf)
