set_option maxRecDepth 100000
def fX4_length_62 (F d : Nat) (this : Nat) (x2 : Int32) (x3 : Int32) (h : Hp) : Option (Int32 × Hp) :=
  if 130 < x2 then
  (some ((-1), h))
  else
  (if x3 < 0 then
  (some ((-1), h))
  else
  (if (gI h 402 this) < (gI h 401 this) then
  (some ((-1), h))
  else
  (if x3 ≤ ((gI h 402 this) - (gI h 401 this)) then
  (some (x3, h))
  else
  (some ((-1), h)))))
def fX4_length_37 (F d : Nat) (this : Nat) (x2 : Int32) (x3 : Int32) (h : Hp) : Option (Int32 × Hp) :=
  if x2 = 130 then
  (ca (fX4_next F d this h) fun v3 h2 => (
  ca (fX4_next F d this h2) fun v5 h4 => (
  bn ((256 * v3) + v5) fun v6 => (
  fX4_length_62 F d this x2 v6 h4))))
  else
  (fX4_length_62 F d this x2 x3 h)
def fX4_length (F d : Nat) (this : Nat) (p0 : Int32) (h : Hp) : Option (Int32 × Hp) :=
  ca (fX4_next F d this h) fun v2 h1 => (
  if v2 = 128 then
  (if p0 = 0 then
  (some ((-1), h1))
  else
  (some ((-2), h1)))
  else
  (if v2 = 129 then
  (ca (fX4_next F d this h1) fun v6 h5 => (
  fX4_length_37 F d this v2 v6 h5))
  else
  (fX4_length_37 F d this v2 v2 h1)))
set_option maxHeartbeats 4000000 in
theorem tX4_length_62 (l : Launch) (w : Wd) (hfl : l.stackTraces = false) (F d : Nat) (r : Int32 × Hp) (this : Nat) (x2 : Int32) (x3 : Int32) (k_this : nd_Kd this = 3) (h : Hp) (hf : fX4_length_62 F d this x2 x3 h = some r) : nd_V l w yX4_length cX4_length 5 (some .int) 1 20 (.inl (some (vi r.1)), r.2) h 62 [(0, vr (some this)), (2, vi x2), (3, vi x3)] [] := by
  unfold fX4_length_62 at hf
  refine nd_iload_n (j := 1) dX4_length_62 rfl rfl ?_
  refine nd_sipush (v := 130) dX4_length_63 (by decide) ?_
  refine nd_icmp_gt (tgt := 97) dX4_length_66 (by decide) (fun c1 => ?_) (fun c1 => ?_)
  · replace hf := ifp c1 hf
    refine nd_iconst (v := (-1)) dX4_length_97 (by decide) ?_
    refine nd_goto (tgt := 102) dX4_length_98 (by decide) ?_
    cases hf
    exact nd_iret (v := (-1)) dX4_length_102
  · replace hf := ifn c1 hf
    refine nd_iload_n (j := 2) dX4_length_69 rfl rfl ?_
    refine nd_if_lt (tgt := 97) dX4_length_70 (by decide) (fun c2 => ?_) (fun c2 => ?_)
    · replace hf := ifp c2 hf
      refine nd_iconst (v := (-1)) dX4_length_97 (by decide) ?_
      refine nd_goto (tgt := 102) dX4_length_98 (by decide) ?_
      cases hf
      exact nd_iret (v := (-1)) dX4_length_102
    · replace hf := ifn c2 hf
      refine nd_aload_n (j := 0) dX4_length_73 rfl rfl ?_
      refine nd_getI (k := 1) dX4_length_74 k_this rfl (Nat.le_of_ble_eq_true rfl) (nd_flO q232) rfl ?_
      refine nd_aload_n (j := 0) dX4_length_77 rfl rfl ?_
      refine nd_getI (k := 2) dX4_length_78 k_this rfl (Nat.le_of_ble_eq_true rfl) (nd_flO q234) rfl ?_
      refine nd_icmp_gt (tgt := 97) dX4_length_81 (by decide) (fun c3 => ?_) (fun c3 => ?_)
      · replace hf := ifp c3 hf
        refine nd_iconst (v := (-1)) dX4_length_97 (by decide) ?_
        refine nd_goto (tgt := 102) dX4_length_98 (by decide) ?_
        cases hf
        exact nd_iret (v := (-1)) dX4_length_102
      · replace hf := ifn c3 hf
        refine nd_iload_n (j := 2) dX4_length_84 rfl rfl ?_
        refine nd_aload_n (j := 0) dX4_length_85 rfl rfl ?_
        refine nd_getI (k := 2) dX4_length_86 k_this rfl (Nat.le_of_ble_eq_true rfl) (nd_flO q234) rfl ?_
        refine nd_aload_n (j := 0) dX4_length_89 rfl rfl ?_
        refine nd_getI (k := 1) dX4_length_90 k_this rfl (Nat.le_of_ble_eq_true rfl) (nd_flO q232) rfl ?_
        refine nd_isub dX4_length_93 ?_
        refine nd_icmp_le (tgt := 101) dX4_length_94 (by decide) (fun c4 => ?_) (fun c4 => ?_)
        · replace hf := ifp c4 hf
          refine nd_iload_n (j := 2) dX4_length_101 rfl rfl ?_
          cases hf
          exact nd_iret (v := x3) dX4_length_102
        · replace hf := ifn c4 hf
          refine nd_iconst (v := (-1)) dX4_length_97 (by decide) ?_
          refine nd_goto (tgt := 102) dX4_length_98 (by decide) ?_
          cases hf
          exact nd_iret (v := (-1)) dX4_length_102
set_option maxHeartbeats 4000000 in
theorem tX4_length_37 (l : Launch) (w : Wd) (hfl : l.stackTraces = false) (F d : Nat) (r : Int32 × Hp) (this : Nat) (x2 : Int32) (x3 : Int32) (k_this : nd_Kd this = 3) (h : Hp) (hf : fX4_length_37 F d this x2 x3 h = some r) : nd_V l w yX4_length cX4_length 5 (some .int) 1 20 (.inl (some (vi r.1)), r.2) h 37 [(0, vr (some this)), (2, vi x2), (3, vi x3)] [] := by
  unfold fX4_length_37 at hf
  refine nd_iload_n (j := 1) dX4_length_37 rfl rfl ?_
  refine nd_sipush (v := 130) dX4_length_38 (by decide) ?_
  refine nd_icmp_ne (tgt := 62) dX4_length_41 (by decide) (fun c1 => ?_) (fun c1 => ?_)
  · replace hf := ifn c1 hf
    exact nd_loc [0, 1, 2] rfl (tX4_length_62 l w hfl F d r _ _ _ k_this _ hf)
  · replace hf := ifp c1 hf
    refine nd_aload_n (j := 0) dX4_length_44 rfl rfl ?_
    replace hf := caE hf
    obtain ⟨v3, h2, e_h2, hf⟩ := hf
    refine nd_Vi [] (tX4_next l w hfl F d k_this e_h2) rfl dX4_length_45 mw_X4_next (Or.inl q1061) k_this rfl q1054 q1055 (by omega) (by omega) (Nat.le_of_ble_eq_true rfl) ?_
    refine nd_istore [(4, vi v3), (0, vr (some this)), (2, vi x2), (3, vi x3)] dX4_length_48 (Nat.le_of_ble_eq_true rfl) rfl ?_
    refine nd_sipush (v := 256) dX4_length_50 (by decide) ?_
    refine nd_iload (j := 0) dX4_length_53 rfl ?_
    refine nd_imul dX4_length_55 ?_
    refine nd_aload_n (j := 1) dX4_length_56 rfl rfl ?_
    replace hf := caE hf
    obtain ⟨v5, h4, e_h4, hf⟩ := hf
    refine nd_Vi [vi (256 * v3)] (tX4_next l w hfl F d k_this e_h4) rfl dX4_length_57 mw_X4_next (Or.inl q1061) k_this rfl q1054 q1055 (by omega) (by omega) (Nat.le_of_ble_eq_true rfl) ?_
    refine nd_iadd dX4_length_60 ?_
    replace hf := bnE hf
    obtain ⟨v6, e_v6, hf⟩ := hf
    refine nd_top e_v6 ?_
    refine nd_istore_n [(3, vi v6), (4, vi v3), (0, vr (some this)), (2, vi x2)] dX4_length_61 rfl (Nat.le_of_ble_eq_true rfl) rfl ?_
    exact nd_loc [2, 3, 0] rfl (tX4_length_62 l w hfl F d r _ _ _ k_this _ hf)
set_option maxHeartbeats 4000000 in
theorem tX4_length (l : Launch) (w : Wd) (hfl : l.stackTraces = false) (F d : Nat) {this : Nat} {p0 : Int32} (k_this : nd_Kd this = 3) {h : Hp} {r : Int32 × Hp} (hf : fX4_length F d this p0 h = some r) : nd_C l w yX4_length cX4_length 5 (some .int) 1 20 [vr (some this), vi p0] h (.inl (some (vi r.1)), r.2) := by
  refine nd_start (as := [vr (some this), vi p0]) hfl (by decide) (Nat.le_of_ble_eq_true rfl) ?_
  unfold fX4_length at hf
  refine nd_eqL (L' := [(0, vr (some this)), (1, vi p0)]) rfl ?_
  refine nd_aload_n (j := 0) dX4_length_0 rfl rfl ?_
  replace hf := caE hf
  obtain ⟨v2, h1, e_h1, hf⟩ := hf
  refine nd_Vi [] (tX4_next l w hfl F d k_this e_h1) rfl dX4_length_1 mw_X4_next (Or.inl q1061) k_this rfl q1054 q1055 (by omega) (by omega) (Nat.le_of_ble_eq_true rfl) ?_
  refine nd_istore_n [(2, vi v2), (0, vr (some this)), (1, vi p0)] dX4_length_4 rfl (Nat.le_of_ble_eq_true rfl) rfl ?_
  refine nd_iload_n (j := 0) dX4_length_5 rfl rfl ?_
  refine nd_istore_n [(3, vi v2), (2, vi v2), (0, vr (some this)), (1, vi p0)] dX4_length_6 rfl (Nat.le_of_ble_eq_true rfl) rfl ?_
  refine nd_iload_n (j := 1) dX4_length_7 rfl rfl ?_
  refine nd_sipush (v := 128) dX4_length_8 (by decide) ?_
  refine nd_icmp_ne (tgt := 25) dX4_length_11 (by decide) (fun c3 => ?_) (fun c3 => ?_)
  · replace hf := ifn c3 hf
    refine nd_iload_n (j := 1) dX4_length_25 rfl rfl ?_
    refine nd_sipush (v := 129) dX4_length_26 (by decide) ?_
    refine nd_icmp_ne (tgt := 37) dX4_length_29 (by decide) (fun c4 => ?_) (fun c4 => ?_)
    · replace hf := ifn c4 hf
      exact nd_loc [2, 1, 0] rfl (tX4_length_37 l w hfl F d r _ _ _ k_this _ hf)
    · replace hf := ifp c4 hf
      refine nd_aload_n (j := 2) dX4_length_32 rfl rfl ?_
      replace hf := caE hf
      obtain ⟨v6, h5, e_h5, hf⟩ := hf
      refine nd_Vi [] (tX4_next l w hfl F d k_this e_h5) rfl dX4_length_33 mw_X4_next (Or.inl q1061) k_this rfl q1054 q1055 (by omega) (by omega) (Nat.le_of_ble_eq_true rfl) ?_
      refine nd_istore_n [(3, vi v6), (2, vi v2), (0, vr (some this)), (1, vi p0)] dX4_length_36 rfl (Nat.le_of_ble_eq_true rfl) rfl ?_
      exact nd_loc [2, 1, 0] rfl (tX4_length_37 l w hfl F d r _ _ _ k_this _ hf)
  · replace hf := ifp c3 hf
    refine nd_iload_n (j := 3) dX4_length_14 rfl rfl ?_
    refine nd_if_eq (tgt := 23) dX4_length_15 (by decide) (fun c7 => ?_) (fun c7 => ?_)
    · replace hf := ifp c7 hf
      refine nd_iconst (v := (-1)) dX4_length_23 (by decide) ?_
      cases hf
      exact nd_iret (v := (-1)) dX4_length_24
    · replace hf := ifn c7 hf
      refine nd_bipush (v := (-2)) dX4_length_18 (by decide) ?_
      refine nd_goto (tgt := 24) dX4_length_20 (by decide) ?_
      cases hf
      exact nd_iret (v := (-2)) dX4_length_24
def fX4_enter_17 (F d : Nat) (this : Nat) (s0 : Int32) (h : Hp) : Option (Int32 × Hp) :=
  if s0 = (-1) then
  (some (0, h))
  else
  (nn (gP h 405 this) fun a3 => (
  ck (inb (gI h 407 this) (nd_Ln a3)) (
  bn (sA h a3 (Int32.toNatClampNeg (gI h 407 this)) s0) fun h5 => (
  nn (gP h5 406 this) fun a7 => (
  ck (inb (gI h5 407 this) (nd_Ln a7)) (
  bn (sA h5 a7 (Int32.toNatClampNeg (gI h5 407 this)) (gI h5 402 this)) fun h9 => (
  bn (sI h9 407 this ((gI h9 407 this) + 1)) fun h10 => (
  if s0 = (-2) then
  (bn (sI h10 402 this (gI h10 402 this)) fun h13 => (
  some (1, h13)))
  else
  (bn (sI h10 402 this ((gI h10 401 this) + s0)) fun h12 => (
  some (1, h12)))))))))))
def fX4_enter (F d : Nat) (this : Nat) (p0 : Int32) (h : Hp) : Option (Int32 × Hp) :=
  ca (fX4_next F d this h) fun v2 h1 => (
  if v2 = p0 then
  (ca (fX4_length F d this 1 h1) fun v5 h4 => (
  fX4_enter_17 F d this v5 h4))
  else
  (fX4_enter_17 F d this (-1) h1))
set_option maxHeartbeats 4000000 in
theorem tX4_enter_17 (l : Launch) (w : Wd) (hfl : l.stackTraces = false) (F d : Nat) (r : Int32 × Hp) (this : Nat) (s0 : Int32) (k_this : nd_Kd this = 3) (h : Hp) (hf : fX4_enter_17 F d this s0 h = some r) : nd_V l w yX4_enter cX4_enter 3 (some .boolean) 2 44 (.inl (some (vi r.1)), r.2) h 17 [(0, vr (some this))] [vi s0] := by
  unfold fX4_enter_17 at hf
  refine nd_istore_n [(2, vi s0), (0, vr (some this))] dX4_enter_17 rfl (Nat.le_of_ble_eq_true rfl) rfl ?_
  refine nd_iload_n (j := 0) dX4_enter_18 rfl rfl ?_
  refine nd_iconst (v := (-1)) dX4_enter_19 (by decide) ?_
  refine nd_icmp_ne (tgt := 25) dX4_enter_20 (by decide) (fun c1 => ?_) (fun c1 => ?_)
  · replace hf := ifn c1 hf
    refine nd_aload_n (j := 1) dX4_enter_25 rfl rfl ?_
    refine nd_getP (k := 5) dX4_enter_26 k_this rfl (Nat.le_of_ble_eq_true rfl) (nd_flO q244) rfl (fun ok2 => ?_)
    replace hf := nnE hf
    obtain ⟨a3, e_a3, hf⟩ := hf
    refine nd_topr e_a3.symm ?_
    have k_a3 : nd_Kd a3 = 20 := nd_c1 (ok2 a3 e_a3)
    refine nd_aload_n (j := 1) dX4_enter_29 rfl rfl ?_
    refine nd_getI (k := 7) dX4_enter_30 k_this rfl (Nat.le_of_ble_eq_true rfl) (nd_flO q246) rfl ?_
    refine nd_iload_n (j := 0) dX4_enter_33 rfl rfl ?_
    replace hf := ckE hf
    obtain ⟨c4, hf⟩ := hf
    refine nd_iast dX4_enter_34 k_a3 c4 ?_
    replace hf := bnE hf
    obtain ⟨h5, e_h5, hf⟩ := hf
    refine nd_hp e_h5 ?_
    refine nd_aload_n (j := 1) dX4_enter_35 rfl rfl ?_
    refine nd_getP (k := 6) dX4_enter_36 k_this rfl (Nat.le_of_ble_eq_true rfl) (nd_flO q245) rfl (fun ok6 => ?_)
    replace hf := nnE hf
    obtain ⟨a7, e_a7, hf⟩ := hf
    refine nd_topr e_a7.symm ?_
    have k_a7 : nd_Kd a7 = 20 := nd_c1 (ok6 a7 e_a7)
    refine nd_aload_n (j := 1) dX4_enter_39 rfl rfl ?_
    refine nd_getI (k := 7) dX4_enter_40 k_this rfl (Nat.le_of_ble_eq_true rfl) (nd_flO q246) rfl ?_
    refine nd_aload_n (j := 1) dX4_enter_43 rfl rfl ?_
    refine nd_getI (k := 2) dX4_enter_44 k_this rfl (Nat.le_of_ble_eq_true rfl) (nd_flO q234) rfl ?_
    replace hf := ckE hf
    obtain ⟨c8, hf⟩ := hf
    refine nd_iast dX4_enter_47 k_a7 c8 ?_
    replace hf := bnE hf
    obtain ⟨h9, e_h9, hf⟩ := hf
    refine nd_hp e_h9 ?_
    refine nd_aload_n (j := 1) dX4_enter_48 rfl rfl ?_
    refine nd_dup dX4_enter_49 rfl ?_
    refine nd_getI (k := 7) dX4_enter_50 k_this rfl (Nat.le_of_ble_eq_true rfl) (nd_flO q246) rfl ?_
    refine nd_iconst (v := 1) dX4_enter_53 (by decide) ?_
    refine nd_iadd dX4_enter_54 ?_
    refine nd_putN (k := 7) dX4_enter_55 k_this rfl (Nat.le_of_ble_eq_true rfl) (nd_flO q246) rfl rfl rfl ?_
    replace hf := bnE hf
    obtain ⟨h10, e_h10, hf⟩ := hf
    refine nd_hp e_h10 ?_
    refine nd_aload_n (j := 1) dX4_enter_58 rfl rfl ?_
    refine nd_iload_n (j := 0) dX4_enter_59 rfl rfl ?_
    refine nd_bipush (v := (-2)) dX4_enter_60 (by decide) ?_
    refine nd_icmp_ne (tgt := 72) dX4_enter_62 (by decide) (fun c11 => ?_) (fun c11 => ?_)
    · replace hf := ifn c11 hf
      refine nd_aload_n (j := 1) dX4_enter_72 rfl rfl ?_
      refine nd_getI (k := 1) dX4_enter_73 k_this rfl (Nat.le_of_ble_eq_true rfl) (nd_flO q232) rfl ?_
      refine nd_iload_n (j := 0) dX4_enter_76 rfl rfl ?_
      refine nd_iadd dX4_enter_77 ?_
      refine nd_putN (k := 2) dX4_enter_78 k_this rfl (Nat.le_of_ble_eq_true rfl) (nd_flO q234) rfl rfl rfl ?_
      replace hf := bnE hf
      obtain ⟨h12, e_h12, hf⟩ := hf
      refine nd_hp e_h12 ?_
      refine nd_iconst (v := 1) dX4_enter_81 (by decide) ?_
      cases hf
      exact nd_zret (v := 1) (by decide) dX4_enter_82
    · replace hf := ifp c11 hf
      refine nd_aload_n (j := 1) dX4_enter_65 rfl rfl ?_
      refine nd_getI (k := 2) dX4_enter_66 k_this rfl (Nat.le_of_ble_eq_true rfl) (nd_flO q234) rfl ?_
      refine nd_goto (tgt := 78) dX4_enter_69 (by decide) ?_
      refine nd_putN (k := 2) dX4_enter_78 k_this rfl (Nat.le_of_ble_eq_true rfl) (nd_flO q234) rfl rfl rfl ?_
      replace hf := bnE hf
      obtain ⟨h13, e_h13, hf⟩ := hf
      refine nd_hp e_h13 ?_
      refine nd_iconst (v := 1) dX4_enter_81 (by decide) ?_
      cases hf
      exact nd_zret (v := 1) (by decide) dX4_enter_82
  · replace hf := ifp c1 hf
    refine nd_iconst (v := 0) dX4_enter_23 (by decide) ?_
    cases hf
    exact nd_zret (v := 0) (by decide) dX4_enter_24
set_option maxHeartbeats 4000000 in
theorem tX4_enter (l : Launch) (w : Wd) (hfl : l.stackTraces = false) (F d : Nat) {this : Nat} {p0 : Int32} (k_this : nd_Kd this = 3) {h : Hp} {r : Int32 × Hp} (hf : fX4_enter F d this p0 h = some r) : nd_C l w yX4_enter cX4_enter 3 (some .boolean) 2 44 [vr (some this), vi p0] h (.inl (some (vi r.1)), r.2) := by
  refine nd_start (as := [vr (some this), vi p0]) hfl (by decide) (Nat.le_of_ble_eq_true rfl) ?_
  unfold fX4_enter at hf
  refine nd_eqL (L' := [(0, vr (some this)), (1, vi p0)]) rfl ?_
  refine nd_aload_n (j := 0) dX4_enter_0 rfl rfl ?_
  replace hf := caE hf
  obtain ⟨v2, h1, e_h1, hf⟩ := hf
  refine nd_Vi [] (tX4_next l w hfl F d k_this e_h1) rfl dX4_enter_1 mw_X4_next (Or.inl q1061) k_this rfl q1054 q1055 (by omega) (by omega) (Nat.le_of_ble_eq_true rfl) ?_
  refine nd_iload_n (j := 1) dX4_enter_4 rfl rfl ?_
  refine nd_icmp_ne (tgt := 16) dX4_enter_5 (by decide) (fun c3 => ?_) (fun c3 => ?_)
  · replace hf := ifn c3 hf
    refine nd_iconst (v := (-1)) dX4_enter_16 (by decide) ?_
    exact nd_loc [0] rfl (tX4_enter_17 l w hfl F d r _ _ k_this _ hf)
  · replace hf := ifp c3 hf
    refine nd_aload_n (j := 0) dX4_enter_8 rfl rfl ?_
    refine nd_iconst (v := 1) dX4_enter_9 (by decide) ?_
    replace hf := caE hf
    obtain ⟨v5, h4, e_h4, hf⟩ := hf
    refine nd_Vi [] (tX4_length l w hfl F d k_this e_h4) rfl dX4_enter_10 mw_X4_length (Or.inl q1079) k_this rfl q1058 q1059 (by omega) (by omega) (Nat.le_of_ble_eq_true rfl) ?_
    refine nd_goto (tgt := 17) dX4_enter_13 (by decide) ?_
    exact nd_loc [0] rfl (tX4_enter_17 l w hfl F d r _ _ k_this _ hf)
def fX4_leave_62 (F d : Nat) (this : Nat) (s0 : Int32) (h : Hp) : Option (Int32 × Hp) :=
  nn (gP h 406 this) fun a2 => (
  ck (inb (gI h 407 this) (nd_Ln a2)) (
  bn (sI h 402 this (gA h a2 (Int32.toNatClampNeg (gI h 407 this)))) fun h4 => (
  ck (isB s0) (
  some (s0, h4)))))
def fX4_leave_42 (F d : Nat) (this : Nat) (h : Hp) : Option (Int32 × Hp) :=
  fX4_leave_62 F d this 0 h
def fX4_leave (F d : Nat) (this : Nat) (h : Hp) : Option (Int32 × Hp) :=
  bn (sI h 407 this ((gI h 407 this) - 1)) fun h1 => (
  nn (gP h1 405 this) fun a3 => (
  ck (inb (gI h1 407 this) (nd_Ln a3)) (
  if (gA h1 a3 (Int32.toNatClampNeg (gI h1 407 this))) = (-2) then
  (ca (fX4_next F d this h1) fun v8 h7 => (
  if v8 = 0 then
  (ca (fX4_next F d this h7) fun v11 h10 => (
  if v11 = 0 then
  (fX4_leave_62 F d this 1 h10)
  else
  (fX4_leave_42 F d this h10)))
  else
  (fX4_leave_42 F d this h7)))
  else
  (if (gI h1 401 this) = (gI h1 402 this) then
  (fX4_leave_62 F d this 1 h1)
  else
  (fX4_leave_62 F d this 0 h1)))))
set_option maxHeartbeats 4000000 in
theorem tX4_leave_62 (l : Launch) (w : Wd) (hfl : l.stackTraces = false) (F d : Nat) (r : Int32 × Hp) (this : Nat) (s0 : Int32) (k_this : nd_Kd this = 3) (h : Hp) (hf : fX4_leave_62 F d this s0 h = some r) : nd_V l w yX4_leave cX4_leave 2 (some .boolean) 1 20 (.inl (some (vi r.1)), r.2) h 62 [(0, vr (some this))] [vi s0] := by
  unfold fX4_leave_62 at hf
  refine nd_istore_n [(1, vi s0), (0, vr (some this))] dX4_leave_62 rfl (Nat.le_of_ble_eq_true rfl) rfl ?_
  refine nd_aload_n (j := 1) dX4_leave_63 rfl rfl ?_
  refine nd_aload_n (j := 1) dX4_leave_64 rfl rfl ?_
  refine nd_getP (k := 6) dX4_leave_65 k_this rfl (Nat.le_of_ble_eq_true rfl) (nd_flO q245) rfl (fun ok1 => ?_)
  replace hf := nnE hf
  obtain ⟨a2, e_a2, hf⟩ := hf
  refine nd_topr e_a2.symm ?_
  have k_a2 : nd_Kd a2 = 20 := nd_c1 (ok1 a2 e_a2)
  refine nd_aload_n (j := 1) dX4_leave_68 rfl rfl ?_
  refine nd_getI (k := 7) dX4_leave_69 k_this rfl (Nat.le_of_ble_eq_true rfl) (nd_flO q246) rfl ?_
  replace hf := ckE hf
  obtain ⟨c3, hf⟩ := hf
  refine nd_iald dX4_leave_72 k_a2 c3 ?_
  refine nd_putN (k := 2) dX4_leave_73 k_this rfl (Nat.le_of_ble_eq_true rfl) (nd_flO q234) rfl rfl rfl ?_
  replace hf := bnE hf
  obtain ⟨h4, e_h4, hf⟩ := hf
  refine nd_hp e_h4 ?_
  refine nd_iload_n (j := 0) dX4_leave_76 rfl rfl ?_
  replace hf := ckE hf
  obtain ⟨c5, hf⟩ := hf
  cases hf
  exact nd_zret (v := s0) c5 dX4_leave_77
set_option maxHeartbeats 4000000 in
theorem tX4_leave_42 (l : Launch) (w : Wd) (hfl : l.stackTraces = false) (F d : Nat) (r : Int32 × Hp) (this : Nat) (k_this : nd_Kd this = 3) (h : Hp) (hf : fX4_leave_42 F d this h = some r) : nd_V l w yX4_leave cX4_leave 2 (some .boolean) 1 20 (.inl (some (vi r.1)), r.2) h 42 [(0, vr (some this))] [] := by
  unfold fX4_leave_42 at hf
  refine nd_iconst (v := 0) dX4_leave_42 (by decide) ?_
  refine nd_goto (tgt := 62) dX4_leave_43 (by decide) ?_
  exact nd_loc [0] rfl (tX4_leave_62 l w hfl F d r _ _ k_this _ hf)
set_option maxHeartbeats 4000000 in
theorem tX4_leave (l : Launch) (w : Wd) (hfl : l.stackTraces = false) (F d : Nat) {this : Nat} (k_this : nd_Kd this = 3) {h : Hp} {r : Int32 × Hp} (hf : fX4_leave F d this h = some r) : nd_C l w yX4_leave cX4_leave 2 (some .boolean) 1 20 [vr (some this)] h (.inl (some (vi r.1)), r.2) := by
  refine nd_start (as := [vr (some this)]) hfl (by decide) (Nat.le_of_ble_eq_true rfl) ?_
  unfold fX4_leave at hf
  refine nd_eqL (L' := [(0, vr (some this))]) rfl ?_
  refine nd_aload_n (j := 0) dX4_leave_0 rfl rfl ?_
  refine nd_dup dX4_leave_1 rfl ?_
  refine nd_getI (k := 7) dX4_leave_2 k_this rfl (Nat.le_of_ble_eq_true rfl) (nd_flO q246) rfl ?_
  refine nd_iconst (v := 1) dX4_leave_5 (by decide) ?_
  refine nd_isub dX4_leave_6 ?_
  refine nd_putN (k := 7) dX4_leave_7 k_this rfl (Nat.le_of_ble_eq_true rfl) (nd_flO q246) rfl rfl rfl ?_
  replace hf := bnE hf
  obtain ⟨h1, e_h1, hf⟩ := hf
  refine nd_hp e_h1 ?_
  refine nd_aload_n (j := 0) dX4_leave_10 rfl rfl ?_
  refine nd_getP (k := 5) dX4_leave_11 k_this rfl (Nat.le_of_ble_eq_true rfl) (nd_flO q244) rfl (fun ok2 => ?_)
  replace hf := nnE hf
  obtain ⟨a3, e_a3, hf⟩ := hf
  refine nd_topr e_a3.symm ?_
  have k_a3 : nd_Kd a3 = 20 := nd_c1 (ok2 a3 e_a3)
  refine nd_aload_n (j := 0) dX4_leave_14 rfl rfl ?_
  refine nd_getI (k := 7) dX4_leave_15 k_this rfl (Nat.le_of_ble_eq_true rfl) (nd_flO q246) rfl ?_
  replace hf := ckE hf
  obtain ⟨c4, hf⟩ := hf
  refine nd_iald dX4_leave_18 k_a3 c4 ?_
  refine nd_bipush (v := (-2)) dX4_leave_19 (by decide) ?_
  refine nd_icmp_ne (tgt := 46) dX4_leave_21 (by decide) (fun c5 => ?_) (fun c5 => ?_)
  · replace hf := ifn c5 hf
    refine nd_aload_n (j := 0) dX4_leave_46 rfl rfl ?_
    refine nd_getI (k := 1) dX4_leave_47 k_this rfl (Nat.le_of_ble_eq_true rfl) (nd_flO q232) rfl ?_
    refine nd_aload_n (j := 0) dX4_leave_50 rfl rfl ?_
    refine nd_getI (k := 2) dX4_leave_51 k_this rfl (Nat.le_of_ble_eq_true rfl) (nd_flO q234) rfl ?_
    refine nd_icmp_ne (tgt := 61) dX4_leave_54 (by decide) (fun c6 => ?_) (fun c6 => ?_)
    · replace hf := ifn c6 hf
      refine nd_iconst (v := 0) dX4_leave_61 (by decide) ?_
      exact nd_loc [0] rfl (tX4_leave_62 l w hfl F d r _ _ k_this _ hf)
    · replace hf := ifp c6 hf
      refine nd_iconst (v := 1) dX4_leave_57 (by decide) ?_
      refine nd_goto (tgt := 62) dX4_leave_58 (by decide) ?_
      exact nd_loc [0] rfl (tX4_leave_62 l w hfl F d r _ _ k_this _ hf)
  · replace hf := ifp c5 hf
    refine nd_aload_n (j := 0) dX4_leave_24 rfl rfl ?_
    replace hf := caE hf
    obtain ⟨v8, h7, e_h7, hf⟩ := hf
    refine nd_Vi [] (tX4_next l w hfl F d k_this e_h7) rfl dX4_leave_25 mw_X4_next (Or.inl q1061) k_this rfl q1054 q1055 (by omega) (by omega) (Nat.le_of_ble_eq_true rfl) ?_
    refine nd_if_ne (tgt := 42) dX4_leave_28 (by decide) (fun c9 => ?_) (fun c9 => ?_)
    · replace hf := ifn c9 hf
      exact nd_loc [0] rfl (tX4_leave_42 l w hfl F d r _ k_this _ hf)
    · replace hf := ifp c9 hf
      refine nd_aload_n (j := 0) dX4_leave_31 rfl rfl ?_
      replace hf := caE hf
      obtain ⟨v11, h10, e_h10, hf⟩ := hf
      refine nd_Vi [] (tX4_next l w hfl F d k_this e_h10) rfl dX4_leave_32 mw_X4_next (Or.inl q1061) k_this rfl q1054 q1055 (by omega) (by omega) (Nat.le_of_ble_eq_true rfl) ?_
      refine nd_if_ne (tgt := 42) dX4_leave_35 (by decide) (fun c12 => ?_) (fun c12 => ?_)
      · replace hf := ifn c12 hf
        exact nd_loc [0] rfl (tX4_leave_42 l w hfl F d r _ k_this _ hf)
      · replace hf := ifp c12 hf
        refine nd_iconst (v := 1) dX4_leave_38 (by decide) ?_
        refine nd_goto (tgt := 62) dX4_leave_39 (by decide) ?_
        exact nd_loc [0] rfl (tX4_leave_62 l w hfl F d r _ _ k_this _ hf)
def fX11_read_116 (F d : Nat) (R_read : Nat → Nat → Int32 → Hp → Option (Option Nat × Hp)) (k_46 : Nat → Nat → Nat → Int32 → Hp → Option (Option Nat × Hp)) (this : Nat) (x1 : Nat) (x3 : Nat) (x4 : Int32) (x5 : Int32) (s0 : Nat) (s1 : Nat) (s2 : Int32) (s3 : Option Nat) (h : Hp) : Option (Option Nat × Hp) :=
  nn (gP h 404 x1) fun a2 => (
  ca (fX11_add F d s0 s1 s2 s3 x5 a2 h) fun v4 h3 => (
  if v4 = 0 then
  (some (none, h3))
  else
  (bn (x4 + 1) fun v6 => (
  k_46 this x1 x3 v6 h3))))
def fX11_read_89 (F d : Nat) (R_read : Nat → Nat → Int32 → Hp → Option (Option Nat × Hp)) (k_46 : Nat → Nat → Nat → Int32 → Hp → Option (Option Nat × Hp)) (this : Nat) (x1 : Nat) (x3 : Nat) (x4 : Int32) (s0 : Int32) (h : Hp) : Option (Option Nat × Hp) :=
  if s0 = 0 then
  (fX11_read_116 F d R_read k_46 this x1 x3 x4 s0 this x3 x4 none h)
  else
  (nn (gP h 1000 this) fun a3 => (
  ck (inb x4 (nd_Ln a3)) (
  bn (gR h a3 (Int32.toNatClampNeg x4)) fun o6 => (
  nn o6 fun a7 => (
  ca (R_read a7 x1 (-1) h) fun v9 h8 => (
  fX11_read_116 F d R_read k_46 this x1 x3 x4 s0 this x3 x4 v9 h8))))))
def fX11_read_88 (F d : Nat) (R_read : Nat → Nat → Int32 → Hp → Option (Option Nat × Hp)) (k_46 : Nat → Nat → Nat → Int32 → Hp → Option (Option Nat × Hp)) (this : Nat) (x1 : Nat) (x3 : Nat) (x4 : Int32) (h : Hp) : Option (Option Nat × Hp) :=
  fX11_read_89 F d R_read k_46 this x1 x3 x4 0 h
def fX11_read_46 (F d : Nat) (R_read : Nat → Nat → Int32 → Hp → Option (Option Nat × Hp)) : Nat → Nat → Nat → Nat → Int32 → Hp → Option (Option Nat × Hp)
  | 0, _, _, _, _, _ => none
  | n + 1, this, x1, x3, x4, h =>
    if (gI h 1001 this) ≤ x4 then
    (ca (fX4_leave F d x1 h) fun v3 h2 => (
    if v3 = 0 then
    (some (none, h2))
    else
    (some ((some x3), h2))))
    else
    (ca (fX4_tag F d x1 h) fun v6 h5 => (
    if v6 = (-1) then
    (fX11_read_88 F d R_read (fX11_read_46 F d R_read n) this x1 x3 x4 h5)
    else
    (nn (gP h5 1000 this) fun a9 => (
    ck (inb x4 (nd_Ln a9)) (
    bn (gR h5 a9 (Int32.toNatClampNeg x4)) fun o12 => (
    nn o12 fun a13 => (
    ca (v_tags F d a13 h5) fun v15 h14 => (
    ca (fX4_tag F d x1 h14) fun v17 h16 => (
    if ((v15 >>> (v17 &&& 31)) &&& 1) = 1 then
    (fX11_read_89 F d R_read (fX11_read_46 F d R_read n) this x1 x3 x4 1 h16)
    else
    (fX11_read_88 F d R_read (fX11_read_46 F d R_read n) this x1 x3 x4 h16))))))))))
def fX11_read_36 (F d : Nat) (R_read : Nat → Nat → Int32 → Hp → Option (Option Nat × Hp)) (this : Nat) (x1 : Nat) (s0 : Option Nat) (h : Hp) : Option (Option Nat × Hp) :=
  oc s0
  (some (none, h))
  (fun a1 =>
  fX11_read_46 F d R_read F this x1 a1 0 h)
def fX11_read_16 (F d : Nat) (R_read : Nat → Nat → Int32 → Hp → Option (Option Nat × Hp)) (this : Nat) (x1 : Nat) (s0 : Nat) (s1 : Int32) (h : Hp) : Option (Option Nat × Hp) :=
  ca (fX4_enter F d s0 s1 h) fun v2 h1 => (
  if v2 = 0 then
  (fX11_read_36 F d R_read this x1 none h1)
  else
  (nn (gP h1 404 x1) fun a5 => (
  ca (fX3_make F d a5 6 0 h1) fun v7 h6 => (
  fX11_read_36 F d R_read this x1 v7 h6))))
def fX11_read (F d : Nat) (R_read : Nat → Nat → Int32 → Hp → Option (Option Nat × Hp)) (this : Nat) (p0 : Nat) (p1 : Int32) (h : Hp) : Option (Option Nat × Hp) :=
  if p1 = (-1) then
  (fX11_read_16 F d R_read this p0 p0 48 h)
  else
  (fX11_read_16 F d R_read this p0 p0 (160 + p1) h)
set_option maxHeartbeats 4000000 in
theorem tX11_read_116 (l : Launch) (w : Wd) (hfl : l.stackTraces = false) (F d : Nat) (R_read : Nat → Nat → Int32 → Hp → Option (Option Nat × Hp)) (hR_read : ∀ {b : Nat} {p0 : Nat} {p1 : Int32} (k_b : [6, 7, 8, 9, 11, 12].contains (nd_Kd b) = true) (k_p0 : nd_Kd p0 = 3) {h : Hp} {r : Option Nat × Hp}, R_read b p0 p1 h = some r → nc_read l w b (1 + 8 * d) (30 + 400 * d) [vr (some b), vr (some p0), vi p1] h (.inl (some (vr r.1)), r.2)) (r : Option Nat × Hp) (k_46 : Nat → Nat → Nat → Int32 → Hp → Option (Option Nat × Hp)) (hk_46 : ∀ (this : Nat) (x1 : Nat) (x3 : Nat) (x4 : Int32) (k_this : nd_Kd this = 7) (k_x1 : nd_Kd x1 = 3) (k_x3 : nd_Kd x3 = 13) (h : Hp), k_46 this x1 x3 x4 h = some r → nd_V l w yX11_read cX11_read 6 (some (.object "NotationDesk$Part")) (3 + 8 * d) (83 + 400 * d) (.inl (some (vr r.1)), r.2) h 46 [(0, vr (some this)), (1, vr (some x1)), (3, vr (some x3)), (4, vi x4)] []) (this : Nat) (x1 : Nat) (x3 : Nat) (x4 : Int32) (x5 : Int32) (s0 : Nat) (s1 : Nat) (s2 : Int32) (s3 : Option Nat) (k_this : nd_Kd this = 7) (k_x1 : nd_Kd x1 = 3) (k_x3 : nd_Kd x3 = 13) (k_s0 : nd_Kd s0 = 7) (k_s1 : nd_Kd s1 = 13) (ok_s3 : ∀ b, s3 = some b → [13].contains (nd_Kd b) = true) (h : Hp) (hf : fX11_read_116 F d R_read k_46 this x1 x3 x4 x5 s0 s1 s2 s3 h = some r) : nd_V l w yX11_read cX11_read 6 (some (.object "NotationDesk$Part")) (3 + 8 * d) (83 + 400 * d) (.inl (some (vr r.1)), r.2) h 116 [(0, vr (some this)), (1, vr (some x1)), (3, vr (some x3)), (4, vi x4), (5, vi x5)] [vr s3, vi s2, vr (some s1), vr (some s0)] := by
  unfold fX11_read_116 at hf
  refine nd_iload (j := 4) dX11_read_116 rfl ?_
  refine nd_aload_n (j := 1) dX11_read_118 rfl rfl ?_
  refine nd_getP (k := 4) dX11_read_119 k_x1 rfl (Nat.le_of_ble_eq_true rfl) (nd_flN q242) rfl (fun ok1 => ?_)
  replace hf := nnE hf
  obtain ⟨a2, e_a2, hf⟩ := hf
  refine nd_topr e_a2.symm ?_
  have k_a2 : nd_Kd a2 = 2 := nd_c1 (ok1 a2 e_a2)
  replace hf := caE hf
  obtain ⟨v4, h3, e_h3, hf⟩ := hf
  refine nd_Vi [] (tX11_add l w hfl F d k_s0 k_s1 ok_s3 k_a2 e_h3) rfl dX11_read_122 mw_X11_add (Or.inl q1013) k_s0 rfl q1015 qs21 (by omega) (by omega) (Nat.le_of_ble_eq_true rfl) ?_
  refine nd_if_ne (tgt := 130) dX11_read_125 (by decide) (fun c5 => ?_) (fun c5 => ?_)
  · replace hf := ifn c5 hf
    replace hf := bnE hf
    obtain ⟨v6, e_v6, hf⟩ := hf
    refine nd_iinc (v := v6) (j := 3) [(4, vi v6), (0, vr (some this)), (1, vr (some x1)), (3, vr (some x3)), (5, vi x5)] dX11_read_130 rfl (by rw [e_v6]; rfl) (Nat.le_of_ble_eq_true rfl) rfl ?_
    refine nd_goto (tgt := 46) dX11_read_133 (by decide) ?_
    exact nd_loc [1, 2, 3, 0] rfl (hk_46 _ _ _ _ k_this k_x1 k_x3 _ hf)
  · replace hf := ifp c5 hf
    refine nd_null dX11_read_128 ?_
    cases hf
    exact nd_aret (fun b e => by cases e) dX11_read_129
set_option maxHeartbeats 4000000 in
theorem tX11_read_89 (l : Launch) (w : Wd) (hfl : l.stackTraces = false) (F d : Nat) (R_read : Nat → Nat → Int32 → Hp → Option (Option Nat × Hp)) (hR_read : ∀ {b : Nat} {p0 : Nat} {p1 : Int32} (k_b : [6, 7, 8, 9, 11, 12].contains (nd_Kd b) = true) (k_p0 : nd_Kd p0 = 3) {h : Hp} {r : Option Nat × Hp}, R_read b p0 p1 h = some r → nc_read l w b (1 + 8 * d) (30 + 400 * d) [vr (some b), vr (some p0), vi p1] h (.inl (some (vr r.1)), r.2)) (r : Option Nat × Hp) (k_46 : Nat → Nat → Nat → Int32 → Hp → Option (Option Nat × Hp)) (hk_46 : ∀ (this : Nat) (x1 : Nat) (x3 : Nat) (x4 : Int32) (k_this : nd_Kd this = 7) (k_x1 : nd_Kd x1 = 3) (k_x3 : nd_Kd x3 = 13) (h : Hp), k_46 this x1 x3 x4 h = some r → nd_V l w yX11_read cX11_read 6 (some (.object "NotationDesk$Part")) (3 + 8 * d) (83 + 400 * d) (.inl (some (vr r.1)), r.2) h 46 [(0, vr (some this)), (1, vr (some x1)), (3, vr (some x3)), (4, vi x4)] []) (this : Nat) (x1 : Nat) (x3 : Nat) (x4 : Int32) (s0 : Int32) (k_this : nd_Kd this = 7) (k_x1 : nd_Kd x1 = 3) (k_x3 : nd_Kd x3 = 13) (h : Hp) (hf : fX11_read_89 F d R_read k_46 this x1 x3 x4 s0 h = some r) : nd_V l w yX11_read cX11_read 6 (some (.object "NotationDesk$Part")) (3 + 8 * d) (83 + 400 * d) (.inl (some (vr r.1)), r.2) h 89 [(0, vr (some this)), (1, vr (some x1)), (3, vr (some x3)), (4, vi x4)] [vi s0] := by
  unfold fX11_read_89 at hf
  refine nd_istore [(5, vi s0), (0, vr (some this)), (1, vr (some x1)), (3, vr (some x3)), (4, vi x4)] dX11_read_89 (Nat.le_of_ble_eq_true rfl) rfl ?_
  refine nd_aload_n (j := 1) dX11_read_91 rfl rfl ?_
  refine nd_aload_n (j := 3) dX11_read_92 rfl rfl ?_
  refine nd_iload (j := 4) dX11_read_93 rfl ?_
  refine nd_iload (j := 0) dX11_read_95 rfl ?_
  refine nd_if_eq (tgt := 115) dX11_read_97 (by decide) (fun c1 => ?_) (fun c1 => ?_)
  · replace hf := ifp c1 hf
    refine nd_null dX11_read_115 ?_
    exact nd_loc [1, 2, 3, 4, 0] rfl (tX11_read_116 l w hfl F d R_read hR_read r k_46 hk_46 _ _ _ _ _ _ _ _ _ k_this k_x1 k_x3 k_this k_x3 (fun b e => by cases e) _ hf)
  · replace hf := ifn c1 hf
    refine nd_aload_n (j := 1) dX11_read_100 rfl rfl ?_
    refine nd_getP (k := 0) dX11_read_101 k_this rfl (Nat.le_of_ble_eq_true rfl) (nd_flS q482 q483) rfl (fun ok2 => ?_)
    replace hf := nnE hf
    obtain ⟨a3, e_a3, hf⟩ := hf
    refine nd_topr e_a3.symm ?_
    have k_a3 : nd_Kd a3 = 24 := nd_c1 (ok2 a3 e_a3)
    refine nd_iload (j := 4) dX11_read_104 rfl ?_
    replace hf := ckE hf
    obtain ⟨c4, hf⟩ := hf
    refine nd_aald (t := 4) (C := "NotationDesk$Type") dX11_read_106 k_a3 (by decide) (fun _ => rfl) c4 (fun ok5 => ?_)
    replace hf := bnE hf
    obtain ⟨o6, e_o6, hf⟩ := hf
    refine nd_topr e_o6 ?_
    have ok_o6 : ∀ b, o6 = some b → [6, 7, 8, 9, 11, 12].contains (nd_Kd b) = true := fun b q => ok5 b (e_o6 ▸ q)
    refine nd_aload_n (j := 2) dX11_read_107 rfl rfl ?_
    refine nd_iconst (v := (-1)) dX11_read_108 (by decide) ?_
    replace hf := nnE hf
    obtain ⟨a7, e_a7, hf⟩ := hf
    have k_a7 : [6, 7, 8, 9, 11, 12].contains (nd_Kd a7) = true := ok_o6 a7 e_a7
    subst e_a7
    replace hf := caE hf
    obtain ⟨v9, h8, e_h8, hf⟩ := hf
    refine nd_v_read [vi x4, vr (some x3), vr (some this)] (hR_read k_a7 k_x1 e_h8) rfl dX11_read_109 q1081 k_a7 (by omega) (by omega) (Nat.le_of_ble_eq_true rfl) (fun ok10 => ?_)
    have ok_v9 : ∀ b, v9 = some b → [13].contains (nd_Kd b) = true := fun b q => okT13 (ok10 b q)
    refine nd_goto (tgt := 116) dX11_read_112 (by decide) ?_
    exact nd_loc [1, 2, 3, 4, 0] rfl (tX11_read_116 l w hfl F d R_read hR_read r k_46 hk_46 _ _ _ _ _ _ _ _ _ k_this k_x1 k_x3 k_this k_x3 ok_v9 _ hf)
set_option maxHeartbeats 4000000 in
theorem tX11_read_88 (l : Launch) (w : Wd) (hfl : l.stackTraces = false) (F d : Nat) (R_read : Nat → Nat → Int32 → Hp → Option (Option Nat × Hp)) (hR_read : ∀ {b : Nat} {p0 : Nat} {p1 : Int32} (k_b : [6, 7, 8, 9, 11, 12].contains (nd_Kd b) = true) (k_p0 : nd_Kd p0 = 3) {h : Hp} {r : Option Nat × Hp}, R_read b p0 p1 h = some r → nc_read l w b (1 + 8 * d) (30 + 400 * d) [vr (some b), vr (some p0), vi p1] h (.inl (some (vr r.1)), r.2)) (r : Option Nat × Hp) (k_46 : Nat → Nat → Nat → Int32 → Hp → Option (Option Nat × Hp)) (hk_46 : ∀ (this : Nat) (x1 : Nat) (x3 : Nat) (x4 : Int32) (k_this : nd_Kd this = 7) (k_x1 : nd_Kd x1 = 3) (k_x3 : nd_Kd x3 = 13) (h : Hp), k_46 this x1 x3 x4 h = some r → nd_V l w yX11_read cX11_read 6 (some (.object "NotationDesk$Part")) (3 + 8 * d) (83 + 400 * d) (.inl (some (vr r.1)), r.2) h 46 [(0, vr (some this)), (1, vr (some x1)), (3, vr (some x3)), (4, vi x4)] []) (this : Nat) (x1 : Nat) (x3 : Nat) (x4 : Int32) (k_this : nd_Kd this = 7) (k_x1 : nd_Kd x1 = 3) (k_x3 : nd_Kd x3 = 13) (h : Hp) (hf : fX11_read_88 F d R_read k_46 this x1 x3 x4 h = some r) : nd_V l w yX11_read cX11_read 6 (some (.object "NotationDesk$Part")) (3 + 8 * d) (83 + 400 * d) (.inl (some (vr r.1)), r.2) h 88 [(0, vr (some this)), (1, vr (some x1)), (3, vr (some x3)), (4, vi x4)] [] := by
  unfold fX11_read_88 at hf
  refine nd_iconst (v := 0) dX11_read_88 (by decide) ?_
  exact nd_loc [0, 1, 2, 3] rfl (tX11_read_89 l w hfl F d R_read hR_read r k_46 hk_46 _ _ _ _ _ k_this k_x1 k_x3 _ hf)
set_option maxHeartbeats 4000000 in
theorem tX11_read_46 (l : Launch) (w : Wd) (hfl : l.stackTraces = false) (F d : Nat) (R_read : Nat → Nat → Int32 → Hp → Option (Option Nat × Hp)) (hR_read : ∀ {b : Nat} {p0 : Nat} {p1 : Int32} (k_b : [6, 7, 8, 9, 11, 12].contains (nd_Kd b) = true) (k_p0 : nd_Kd p0 = 3) {h : Hp} {r : Option Nat × Hp}, R_read b p0 p1 h = some r → nc_read l w b (1 + 8 * d) (30 + 400 * d) [vr (some b), vr (some p0), vi p1] h (.inl (some (vr r.1)), r.2)) (r : Option Nat × Hp) : ∀ (n : Nat) (this : Nat) (x1 : Nat) (x3 : Nat) (x4 : Int32) (k_this : nd_Kd this = 7) (k_x1 : nd_Kd x1 = 3) (k_x3 : nd_Kd x3 = 13) (h : Hp), fX11_read_46 F d R_read n this x1 x3 x4 h = some r → nd_V l w yX11_read cX11_read 6 (some (.object "NotationDesk$Part")) (3 + 8 * d) (83 + 400 * d) (.inl (some (vr r.1)), r.2) h 46 [(0, vr (some this)), (1, vr (some x1)), (3, vr (some x3)), (4, vi x4)] [] := by
  intro n
  induction n with
  | zero => intro _ _ _ _ _ _ _ _ hf; cases hf
  | succ n ih =>
    intro this x1 x3 x4 k_this k_x1 k_x3 h hf
    unfold fX11_read_46 at hf
    refine nd_iload (j := 3) dX11_read_46 rfl ?_
    refine nd_aload_n (j := 0) dX11_read_48 rfl rfl ?_
    refine nd_getI (k := 1) dX11_read_49 k_this rfl (Nat.le_of_ble_eq_true rfl) (nd_flS q487 q488) rfl ?_
    refine nd_icmp_ge (tgt := 136) dX11_read_52 (by decide) (fun c1 => ?_) (fun c1 => ?_)
    · replace hf := ifp c1 hf
      refine nd_aload_n (j := 1) dX11_read_136 rfl rfl ?_
      replace hf := caE hf
      obtain ⟨v3, h2, e_h2, hf⟩ := hf
      refine nd_Vi [] (tX4_leave l w hfl F d k_x1 e_h2) rfl dX11_read_137 mw_X4_leave (Or.inl q1099) k_x1 rfl q1095 q1096 (by omega) (by omega) (Nat.le_of_ble_eq_true rfl) ?_
      refine nd_if_eq (tgt := 147) dX11_read_140 (by decide) (fun c4 => ?_) (fun c4 => ?_)
      · replace hf := ifp c4 hf
        refine nd_null dX11_read_147 ?_
        cases hf
        exact nd_aret (fun b e => by cases e) dX11_read_148
      · replace hf := ifn c4 hf
        refine nd_aload_n (j := 2) dX11_read_143 rfl rfl ?_
        refine nd_goto (tgt := 148) dX11_read_144 (by decide) ?_
        cases hf
        exact nd_aret (fun b e => by cases e; exact okT13' (by rw [k_x3]; rfl)) dX11_read_148
    · replace hf := ifn c1 hf
      refine nd_aload_n (j := 1) dX11_read_55 rfl rfl ?_
      replace hf := caE hf
      obtain ⟨v6, h5, e_h5, hf⟩ := hf
      refine nd_Vi [] (tX4_tag l w hfl F d k_x1 e_h5) rfl dX11_read_56 mw_X4_tag (Or.inl q1080) k_x1 rfl q1047 q1048 (by omega) (by omega) (Nat.le_of_ble_eq_true rfl) ?_
      refine nd_iconst (v := (-1)) dX11_read_59 (by decide) ?_
      refine nd_icmp_eq (tgt := 88) dX11_read_60 (by decide) (fun c7 => ?_) (fun c7 => ?_)
      · replace hf := ifp c7 hf
        exact nd_loc [0, 1, 2, 3] rfl (tX11_read_88 l w hfl F d R_read hR_read r (fX11_read_46 F d R_read n) ih _ _ _ _ k_this k_x1 k_x3 _ hf)
      · replace hf := ifn c7 hf
        refine nd_aload_n (j := 0) dX11_read_63 rfl rfl ?_
        refine nd_getP (k := 0) dX11_read_64 k_this rfl (Nat.le_of_ble_eq_true rfl) (nd_flS q482 q483) rfl (fun ok8 => ?_)
        replace hf := nnE hf
        obtain ⟨a9, e_a9, hf⟩ := hf
        refine nd_topr e_a9.symm ?_
        have k_a9 : nd_Kd a9 = 24 := nd_c1 (ok8 a9 e_a9)
        refine nd_iload (j := 3) dX11_read_67 rfl ?_
        replace hf := ckE hf
        obtain ⟨c10, hf⟩ := hf
        refine nd_aald (t := 4) (C := "NotationDesk$Type") dX11_read_69 k_a9 (by decide) (fun _ => rfl) c10 (fun ok11 => ?_)
        replace hf := bnE hf
        obtain ⟨o12, e_o12, hf⟩ := hf
        refine nd_topr e_o12 ?_
        have ok_o12 : ∀ b, o12 = some b → [6, 7, 8, 9, 11, 12].contains (nd_Kd b) = true := fun b q => ok11 b (e_o12 ▸ q)
        replace hf := nnE hf
        obtain ⟨a13, e_a13, hf⟩ := hf
        have k_a13 : [6, 7, 8, 9, 11, 12].contains (nd_Kd a13) = true := ok_o12 a13 e_a13
        subst e_a13
        replace hf := caE hf
        obtain ⟨v15, h14, e_h14, hf⟩ := hf
        refine nd_v_tags [] (tv_tags l w hfl F d k_a13 e_h14) rfl dX11_read_70 q540 k_a13 (by omega) (by omega) (Nat.le_of_ble_eq_true rfl) ?_
        refine nd_aload_n (j := 1) dX11_read_73 rfl rfl ?_
        replace hf := caE hf
        obtain ⟨v17, h16, e_h16, hf⟩ := hf
        refine nd_Vi [vi v15] (tX4_tag l w hfl F d k_x1 e_h16) rfl dX11_read_74 mw_X4_tag (Or.inl q1080) k_x1 rfl q1047 q1048 (by omega) (by omega) (Nat.le_of_ble_eq_true rfl) ?_
        refine nd_ishr dX11_read_77 ?_
        refine nd_iconst (v := 1) dX11_read_78 (by decide) ?_
        refine nd_iand dX11_read_79 ?_
        refine nd_iconst (v := 1) dX11_read_80 (by decide) ?_
        refine nd_icmp_ne (tgt := 88) dX11_read_81 (by decide) (fun c18 => ?_) (fun c18 => ?_)
        · replace hf := ifn c18 hf
          exact nd_loc [0, 1, 2, 3] rfl (tX11_read_88 l w hfl F d R_read hR_read r (fX11_read_46 F d R_read n) ih _ _ _ _ k_this k_x1 k_x3 _ hf)
        · replace hf := ifp c18 hf
          refine nd_iconst (v := 1) dX11_read_84 (by decide) ?_
          refine nd_goto (tgt := 89) dX11_read_85 (by decide) ?_
          exact nd_loc [0, 1, 2, 3] rfl (tX11_read_89 l w hfl F d R_read hR_read r (fX11_read_46 F d R_read n) ih _ _ _ _ _ k_this k_x1 k_x3 _ hf)
set_option maxHeartbeats 4000000 in
theorem tX11_read_36 (l : Launch) (w : Wd) (hfl : l.stackTraces = false) (F d : Nat) (R_read : Nat → Nat → Int32 → Hp → Option (Option Nat × Hp)) (hR_read : ∀ {b : Nat} {p0 : Nat} {p1 : Int32} (k_b : [6, 7, 8, 9, 11, 12].contains (nd_Kd b) = true) (k_p0 : nd_Kd p0 = 3) {h : Hp} {r : Option Nat × Hp}, R_read b p0 p1 h = some r → nc_read l w b (1 + 8 * d) (30 + 400 * d) [vr (some b), vr (some p0), vi p1] h (.inl (some (vr r.1)), r.2)) (r : Option Nat × Hp) (this : Nat) (x1 : Nat) (s0 : Option Nat) (k_this : nd_Kd this = 7) (k_x1 : nd_Kd x1 = 3) (ok_s0 : ∀ b, s0 = some b → [13].contains (nd_Kd b) = true) (h : Hp) (hf : fX11_read_36 F d R_read this x1 s0 h = some r) : nd_V l w yX11_read cX11_read 6 (some (.object "NotationDesk$Part")) (3 + 8 * d) (83 + 400 * d) (.inl (some (vr r.1)), r.2) h 36 [(0, vr (some this)), (1, vr (some x1))] [vr s0] := by
  unfold fX11_read_36 at hf
  refine nd_astore_n [(3, vr s0), (0, vr (some this)), (1, vr (some x1))] dX11_read_36 rfl (Nat.le_of_ble_eq_true rfl) rfl ?_
  refine nd_aload_n (j := 0) dX11_read_37 rfl rfl ?_
  refine nd_ifnonnull (tgt := 43) dX11_read_38 (by decide) (fun e_a1 => ?_) (fun a1 e_a1 => ?_)
  · replace hf := ocN e_a1 hf
    subst e_a1
    refine nd_null dX11_read_41 ?_
    cases hf
    exact nd_aret (fun b e => by cases e) dX11_read_42
  · replace hf := ocS e_a1 hf
    have k_a1 : nd_Kd a1 = 13 := nd_c1 (ok_s0 a1 e_a1)
    subst e_a1
    refine nd_iconst (v := 0) dX11_read_43 (by decide) ?_
    refine nd_istore [(4, vi 0), (3, vr (some a1)), (0, vr (some this)), (1, vr (some x1))] dX11_read_44 (Nat.le_of_ble_eq_true rfl) rfl ?_
    exact nd_loc [2, 3, 1, 0] rfl (tX11_read_46 l w hfl F d R_read hR_read r F _ _ _ _ k_this k_x1 k_a1 _ hf)
set_option maxHeartbeats 4000000 in
theorem tX11_read_16 (l : Launch) (w : Wd) (hfl : l.stackTraces = false) (F d : Nat) (R_read : Nat → Nat → Int32 → Hp → Option (Option Nat × Hp)) (hR_read : ∀ {b : Nat} {p0 : Nat} {p1 : Int32} (k_b : [6, 7, 8, 9, 11, 12].contains (nd_Kd b) = true) (k_p0 : nd_Kd p0 = 3) {h : Hp} {r : Option Nat × Hp}, R_read b p0 p1 h = some r → nc_read l w b (1 + 8 * d) (30 + 400 * d) [vr (some b), vr (some p0), vi p1] h (.inl (some (vr r.1)), r.2)) (r : Option Nat × Hp) (this : Nat) (x1 : Nat) (s0 : Nat) (s1 : Int32) (k_this : nd_Kd this = 7) (k_x1 : nd_Kd x1 = 3) (k_s0 : nd_Kd s0 = 3) (h : Hp) (hf : fX11_read_16 F d R_read this x1 s0 s1 h = some r) : nd_V l w yX11_read cX11_read 6 (some (.object "NotationDesk$Part")) (3 + 8 * d) (83 + 400 * d) (.inl (some (vr r.1)), r.2) h 16 [(0, vr (some this)), (1, vr (some x1))] [vi s1, vr (some s0)] := by
  unfold fX11_read_16 at hf
  replace hf := caE hf
  obtain ⟨v2, h1, e_h1, hf⟩ := hf
  refine nd_Vi [] (tX4_enter l w hfl F d k_s0 e_h1) rfl dX11_read_16 mw_X4_enter (Or.inl q1075) k_s0 rfl q1076 q1077 (by omega) (by omega) (Nat.le_of_ble_eq_true rfl) ?_
  refine nd_if_eq (tgt := 35) dX11_read_19 (by decide) (fun c3 => ?_) (fun c3 => ?_)
  · replace hf := ifp c3 hf
    refine nd_null dX11_read_35 ?_
    exact nd_loc [0, 1] rfl (tX11_read_36 l w hfl F d R_read hR_read r _ _ _ k_this k_x1 (fun b e => by cases e) _ hf)
  · replace hf := ifn c3 hf
    refine nd_aload_n (j := 1) dX11_read_22 rfl rfl ?_
    refine nd_getP (k := 4) dX11_read_23 k_x1 rfl (Nat.le_of_ble_eq_true rfl) (nd_flN q242) rfl (fun ok4 => ?_)
    replace hf := nnE hf
    obtain ⟨a5, e_a5, hf⟩ := hf
    refine nd_topr e_a5.symm ?_
    have k_a5 : nd_Kd a5 = 2 := nd_c1 (ok4 a5 e_a5)
    refine nd_bipush (v := 6) dX11_read_26 (by decide) ?_
    refine nd_iconst (v := 0) dX11_read_28 (by decide) ?_
    replace hf := caE hf
    obtain ⟨v7, h6, e_h6, hf⟩ := hf
    refine nd_Vr [] (tX3_make l w hfl F d k_a5 e_h6) rfl dX11_read_29 mw_X3_make (Or.inl q994) k_a5 rfl q897 q898 (by omega) (by omega) (Nat.le_of_ble_eq_true rfl) (fun ok8 => ?_)
    have ok_v7 : ∀ b, v7 = some b → [13].contains (nd_Kd b) = true := fun b q => okT13 (ok8 b q)
    refine nd_goto (tgt := 36) dX11_read_32 (by decide) ?_
    exact nd_loc [0, 1] rfl (tX11_read_36 l w hfl F d R_read hR_read r _ _ _ k_this k_x1 ok_v7 _ hf)
set_option maxHeartbeats 4000000 in
theorem tX11_read (l : Launch) (w : Wd) (hfl : l.stackTraces = false) (F d : Nat) (R_read : Nat → Nat → Int32 → Hp → Option (Option Nat × Hp)) (hR_read : ∀ {b : Nat} {p0 : Nat} {p1 : Int32} (k_b : [6, 7, 8, 9, 11, 12].contains (nd_Kd b) = true) (k_p0 : nd_Kd p0 = 3) {h : Hp} {r : Option Nat × Hp}, R_read b p0 p1 h = some r → nc_read l w b (1 + 8 * d) (30 + 400 * d) [vr (some b), vr (some p0), vi p1] h (.inl (some (vr r.1)), r.2)) {this : Nat} {p0 : Nat} {p1 : Int32} (k_this : nd_Kd this = 7) (k_p0 : nd_Kd p0 = 3) {h : Hp} {r : Option Nat × Hp} (hf : fX11_read F d R_read this p0 p1 h = some r) : nd_C l w yX11_read cX11_read 6 (some (.object "NotationDesk$Part")) (3 + 8 * d) (83 + 400 * d) [vr (some this), vr (some p0), vi p1] h (.inl (some (vr r.1)), r.2) := by
  refine nd_start (as := [vr (some this), vr (some p0), vi p1]) hfl (by decide) (Nat.le_of_ble_eq_true rfl) ?_
  unfold fX11_read at hf
  refine nd_eqL (L' := [(0, vr (some this)), (1, vr (some p0)), (2, vi p1)]) rfl ?_
  refine nd_aload_n (j := 1) dX11_read_0 rfl rfl ?_
  refine nd_iload_n (j := 2) dX11_read_1 rfl rfl ?_
  refine nd_iconst (v := (-1)) dX11_read_2 (by decide) ?_
  refine nd_icmp_ne (tgt := 11) dX11_read_3 (by decide) (fun c1 => ?_) (fun c1 => ?_)
  · replace hf := ifn c1 hf
    refine nd_sipush (v := 160) dX11_read_11 (by decide) ?_
    refine nd_iload_n (j := 2) dX11_read_14 rfl rfl ?_
    refine nd_iadd dX11_read_15 ?_
    exact nd_loc [0, 1] rfl (tX11_read_16 l w hfl F d R_read hR_read r _ _ _ _ k_this k_p0 k_p0 _ hf)
  · replace hf := ifp c1 hf
    refine nd_bipush (v := 48) dX11_read_6 (by decide) ?_
    refine nd_goto (tgt := 16) dX11_read_8 (by decide) ?_
    exact nd_loc [0, 1] rfl (tX11_read_16 l w hfl F d R_read hR_read r _ _ _ _ k_this k_p0 k_p0 _ hf)
def fX1_headed (F d : Nat) (p0 : Int32) (h : Hp) : Option (Int32 × Hp) :=
  if 128 ≤ p0 then
  (if 256 ≤ p0 then
  (some ((p0 + 4), h))
  else
  (some ((p0 + 3), h)))
  else
  (some ((p0 + 2), h))
set_option maxHeartbeats 4000000 in
theorem tX1_headed (l : Launch) (w : Wd) (hfl : l.stackTraces = false) (F d : Nat) {p0 : Int32}  {h : Hp} {r : Int32 × Hp} (hf : fX1_headed F d p0 h = some r) : nd_C l w yX1_headed cX1_headed 1 (some .int) 0 0 [vi p0] h (.inl (some (vi r.1)), r.2) := by
  refine nd_start (as := [vi p0]) hfl (by decide) (Nat.le_of_ble_eq_true rfl) ?_
  unfold fX1_headed at hf
  refine nd_eqL (L' := [(0, vi p0)]) rfl ?_
  refine nd_iload_n (j := 0) dX1_headed_0 rfl rfl ?_
  refine nd_iload_n (j := 0) dX1_headed_1 rfl rfl ?_
  refine nd_sipush (v := 128) dX1_headed_2 (by decide) ?_
  refine nd_icmp_ge (tgt := 12) dX1_headed_5 (by decide) (fun c1 => ?_) (fun c1 => ?_)
  · replace hf := ifp c1 hf
    refine nd_iload_n (j := 0) dX1_headed_12 rfl rfl ?_
    refine nd_sipush (v := 256) dX1_headed_13 (by decide) ?_
    refine nd_icmp_ge (tgt := 23) dX1_headed_16 (by decide) (fun c2 => ?_) (fun c2 => ?_)
    · replace hf := ifp c2 hf
      refine nd_iconst (v := 4) dX1_headed_23 (by decide) ?_
      refine nd_iadd dX1_headed_24 ?_
      cases hf
      exact nd_iret (v := (p0 + 4)) dX1_headed_25
    · replace hf := ifn c2 hf
      refine nd_iconst (v := 3) dX1_headed_19 (by decide) ?_
      refine nd_goto (tgt := 24) dX1_headed_20 (by decide) ?_
      refine nd_iadd dX1_headed_24 ?_
      cases hf
      exact nd_iret (v := (p0 + 3)) dX1_headed_25
  · replace hf := ifn c1 hf
    refine nd_iconst (v := 2) dX1_headed_8 (by decide) ?_
    refine nd_goto (tgt := 24) dX1_headed_9 (by decide) ?_
    refine nd_iadd dX1_headed_24 ?_
    cases hf
    exact nd_iret (v := (p0 + 2)) dX1_headed_25
def fX11_size (F d : Nat) (R_size : Nat → Nat → Hp → Option (Int32 × Hp)) (this : Nat) (p0 : Nat) (h : Hp) : Option (Int32 × Hp) :=
  ca (fX11_content F d R_size this p0 h) fun v2 h1 => (
  ca (fX1_headed F d v2 h1) fun v4 h3 => (
  some (v4, h3)))
set_option maxHeartbeats 4000000 in
theorem tX11_size (l : Launch) (w : Wd) (hfl : l.stackTraces = false) (F d : Nat) (R_size : Nat → Nat → Hp → Option (Int32 × Hp)) (hR_size : ∀ {b : Nat} {p0 : Nat} (k_b : [6, 7, 8, 9, 11, 12].contains (nd_Kd b) = true) (k_p0 : nd_Kd p0 = 13) {h : Hp} {r : Int32 × Hp}, R_size b p0 h = some r → nc_size l w b (1 + 8 * d) (30 + 400 * d) [vr (some b), vr (some p0)] h (.inl (some (vi r.1)), r.2)) {this : Nat} {p0 : Nat} (k_this : nd_Kd this = 7) (k_p0 : nd_Kd p0 = 13) {h : Hp} {r : Int32 × Hp} (hf : fX11_size F d R_size this p0 h = some r) : nd_C l w yX11_size cX11_size 2 (some .int) (3 + 8 * d) (74 + 400 * d) [vr (some this), vr (some p0)] h (.inl (some (vi r.1)), r.2) := by
  refine nd_start (as := [vr (some this), vr (some p0)]) hfl (by decide) (Nat.le_of_ble_eq_true rfl) ?_
  unfold fX11_size at hf
  refine nd_eqL (L' := [(0, vr (some this)), (1, vr (some p0))]) rfl ?_
  refine nd_aload_n (j := 0) dX11_size_0 rfl rfl ?_
  refine nd_aload_n (j := 1) dX11_size_1 rfl rfl ?_
  replace hf := caE hf
  obtain ⟨v2, h1, e_h1, hf⟩ := hf
  refine nd_Vi [] (tX11_content l w hfl F d R_size hR_size k_this k_p0 e_h1) rfl dX11_size_2 mw_X11_content (Or.inl q1161) k_this rfl q1163 qs23 (by omega) (by omega) (Nat.le_of_ble_eq_true rfl) ?_
  replace hf := caE hf
  obtain ⟨v4, h3, e_h3, hf⟩ := hf
  refine nd_Si [] (tX1_headed l w hfl F d e_h3) rfl dX11_size_5 mw_X1_headed (Or.inr ⟨_, q1187⟩) q1183 (by omega) (by omega) (Nat.le_of_ble_eq_true rfl) ?_
  cases hf
  exact nd_iret (v := v4) dX11_size_8
def fX11_unpack_134 (F d : Nat) (R_unpack : Nat → Nat → Hp → Option (Option Nat × Hp)) (k_66 : Nat → Nat → Int32 → Option Nat → Int32 → Hp → Option (Option Nat × Hp)) (this : Nat) (x1 : Nat) (x2 : Int32) (x3 : Option Nat) (x4 : Int32) (h : Hp) : Option (Option Nat × Hp) :=
  bn (x4 + 1) fun v1 => (
  k_66 this x1 x2 x3 v1 h)
def fX11_unpack_120 (F d : Nat) (R_unpack : Nat → Nat → Hp → Option (Option Nat × Hp)) (k_66 : Nat → Nat → Int32 → Option Nat → Int32 → Hp → Option (Option Nat × Hp)) (this : Nat) (x1 : Nat) (x2 : Int32) (x3 : Nat) (x4 : Int32) (x5 : Int32) (s0 : Nat) (s1 : Nat) (s2 : Int32) (s3 : Option Nat) (h : Hp) : Option (Option Nat × Hp) :=
  nn (gP h 404 x1) fun a2 => (
  ca (fX11_add F d s0 s1 s2 s3 x5 a2 h) fun v4 h3 => (
  if v4 = 0 then
  (fX11_unpack_134 F d R_unpack k_66 this x1 x2 none x4 h3)
  else
  (fX11_unpack_134 F d R_unpack k_66 this x1 x2 (some x3) x4 h3)))
def fX11_unpack_94 (F d : Nat) (R_unpack : Nat → Nat → Hp → Option (Option Nat × Hp)) (k_66 : Nat → Nat → Int32 → Option Nat → Int32 → Hp → Option (Option Nat × Hp)) (this : Nat) (x1 : Nat) (x2 : Int32) (x3 : Nat) (x4 : Int32) (s0 : Int32) (h : Hp) : Option (Option Nat × Hp) :=
  if s0 = 0 then
  (fX11_unpack_120 F d R_unpack k_66 this x1 x2 x3 x4 s0 this x3 x4 none h)
  else
  (nn (gP h 1000 this) fun a3 => (
  ck (inb x4 (nd_Ln a3)) (
  bn (gR h a3 (Int32.toNatClampNeg x4)) fun o6 => (
  nn o6 fun a7 => (
  ca (R_unpack a7 x1 h) fun v9 h8 => (
  fX11_unpack_120 F d R_unpack k_66 this x1 x2 x3 x4 s0 this x3 x4 v9 h8))))))
def fX11_unpack_66 (F d : Nat) (R_unpack : Nat → Nat → Hp → Option (Option Nat × Hp)) : Nat → Nat → Nat → Int32 → Option Nat → Int32 → Hp → Option (Option Nat × Hp)
  | 0, _, _, _, _, _, _ => none
  | n + 1, this, x1, x2, x3, x4, h =>
    if (gI h 1001 this) ≤ x4 then
    (some (x3, h))
    else
    (oc x3
    (some (none, h))
    (fun a2 =>
    if ((x2 >>> (x4 &&& 31)) &&& 1) = 1 then
    (fX11_unpack_94 F d R_unpack (fX11_unpack_66 F d R_unpack n) this x1 x2 a2 x4 1 h)
    else
    (fX11_unpack_94 F d R_unpack (fX11_unpack_66 F d R_unpack n) this x1 x2 a2 x4 0 h)))
def fX11_unpack_62 (F d : Nat) (R_unpack : Nat → Nat → Hp → Option (Option Nat × Hp)) (this : Nat) (x1 : Nat) (x2 : Int32) (s0 : Option Nat) (h : Hp) : Option (Option Nat × Hp) :=
  fX11_unpack_66 F d R_unpack F this x1 x2 s0 0 h
def fX11_unpack_31 (F d : Nat) (R_unpack : Nat → Nat → Hp → Option (Option Nat × Hp)) (k_4 : Nat → Nat → Int32 → Int32 → Hp → Option (Option Nat × Hp)) (this : Nat) (x1 : Nat) (x3 : Int32) (s0 : Int32) (s1 : Int32) (h : Hp) : Option (Option Nat × Hp) :=
  bn (s0 ||| (s1 <<< (x3 &&& 31))) fun v1 => (
  bn (x3 + 1) fun v2 => (
  k_4 this x1 v1 v2 h))
def fX11_unpack_4 (F d : Nat) (R_unpack : Nat → Nat → Hp → Option (Option Nat × Hp)) : Nat → Nat → Nat → Int32 → Int32 → Hp → Option (Option Nat × Hp)
  | 0, _, _, _, _, _ => none
  | n + 1, this, x1, x2, x3, h =>
    if (gI h 1001 this) ≤ x3 then
    (ca (fX4_isThere F d x1 h) fun v3 h2 => (
    if v3 = 0 then
    (fX11_unpack_62 F d R_unpack this x1 x2 none h2)
    else
    (nn (gP h2 404 x1) fun a6 => (
    ca (fX3_make F d a6 6 0 h2) fun v8 h7 => (
    fX11_unpack_62 F d R_unpack this x1 x2 v8 h7)))))
    else
    (nn (gP h 1100 this) fun a11 => (
    ck (inb x3 (nd_Ln a11)) (
    if (gA h a11 (Int32.toNatClampNeg x3)) = 0 then
    (fX11_unpack_31 F d R_unpack (fX11_unpack_4 F d R_unpack n) this x1 x3 x2 1 h)
    else
    (ca (fX4_take F d x1 1 h) fun v15 h14 => (
    fX11_unpack_31 F d R_unpack (fX11_unpack_4 F d R_unpack n) this x1 x3 x2 v15 h14)))))
def fX11_unpack (F d : Nat) (R_unpack : Nat → Nat → Hp → Option (Option Nat × Hp)) (this : Nat) (p0 : Nat) (h : Hp) : Option (Option Nat × Hp) :=
  fX11_unpack_4 F d R_unpack F this p0 0 0 h
set_option maxHeartbeats 4000000 in
theorem tX11_unpack_134 (l : Launch) (w : Wd) (hfl : l.stackTraces = false) (F d : Nat) (R_unpack : Nat → Nat → Hp → Option (Option Nat × Hp)) (hR_unpack : ∀ {b : Nat} {p0 : Nat} (k_b : [6, 7, 8, 9, 11, 12].contains (nd_Kd b) = true) (k_p0 : nd_Kd p0 = 3) {h : Hp} {r : Option Nat × Hp}, R_unpack b p0 h = some r → nc_unpack l w b (1 + 8 * d) (30 + 400 * d) [vr (some b), vr (some p0)] h (.inl (some (vr r.1)), r.2)) (r : Option Nat × Hp) (k_66 : Nat → Nat → Int32 → Option Nat → Int32 → Hp → Option (Option Nat × Hp)) (hk_66 : ∀ (this : Nat) (x1 : Nat) (x2 : Int32) (x3 : Option Nat) (x4 : Int32) (k_this : nd_Kd this = 7) (k_x1 : nd_Kd x1 = 3) (ok_x3 : ∀ b, x3 = some b → [13].contains (nd_Kd b) = true) (h : Hp), k_66 this x1 x2 x3 x4 h = some r → nd_V l w yX11_unpack cX11_unpack 6 (some (.object "NotationDesk$Part")) (3 + 8 * d) (83 + 400 * d) (.inl (some (vr r.1)), r.2) h 66 [(0, vr (some this)), (1, vr (some x1)), (2, vi x2), (3, vr x3), (4, vi x4)] []) (this : Nat) (x1 : Nat) (x2 : Int32) (x3 : Option Nat) (x4 : Int32) (k_this : nd_Kd this = 7) (k_x1 : nd_Kd x1 = 3) (ok_x3 : ∀ b, x3 = some b → [13].contains (nd_Kd b) = true) (h : Hp) (hf : fX11_unpack_134 F d R_unpack k_66 this x1 x2 x3 x4 h = some r) : nd_V l w yX11_unpack cX11_unpack 6 (some (.object "NotationDesk$Part")) (3 + 8 * d) (83 + 400 * d) (.inl (some (vr r.1)), r.2) h 134 [(0, vr (some this)), (1, vr (some x1)), (2, vi x2), (3, vr x3), (4, vi x4)] [] := by
  unfold fX11_unpack_134 at hf
  replace hf := bnE hf
  obtain ⟨v1, e_v1, hf⟩ := hf
  refine nd_iinc (v := v1) (j := 4) [(4, vi v1), (0, vr (some this)), (1, vr (some x1)), (2, vi x2), (3, vr x3)] dX11_unpack_134 rfl (by rw [e_v1]; rfl) (Nat.le_of_ble_eq_true rfl) rfl ?_
  refine nd_goto (tgt := 66) dX11_unpack_137 (by decide) ?_
  exact nd_loc [1, 2, 3, 4, 0] rfl (hk_66 _ _ _ _ _ k_this k_x1 ok_x3 _ hf)
set_option maxHeartbeats 4000000 in
theorem tX11_unpack_120 (l : Launch) (w : Wd) (hfl : l.stackTraces = false) (F d : Nat) (R_unpack : Nat → Nat → Hp → Option (Option Nat × Hp)) (hR_unpack : ∀ {b : Nat} {p0 : Nat} (k_b : [6, 7, 8, 9, 11, 12].contains (nd_Kd b) = true) (k_p0 : nd_Kd p0 = 3) {h : Hp} {r : Option Nat × Hp}, R_unpack b p0 h = some r → nc_unpack l w b (1 + 8 * d) (30 + 400 * d) [vr (some b), vr (some p0)] h (.inl (some (vr r.1)), r.2)) (r : Option Nat × Hp) (k_66 : Nat → Nat → Int32 → Option Nat → Int32 → Hp → Option (Option Nat × Hp)) (hk_66 : ∀ (this : Nat) (x1 : Nat) (x2 : Int32) (x3 : Option Nat) (x4 : Int32) (k_this : nd_Kd this = 7) (k_x1 : nd_Kd x1 = 3) (ok_x3 : ∀ b, x3 = some b → [13].contains (nd_Kd b) = true) (h : Hp), k_66 this x1 x2 x3 x4 h = some r → nd_V l w yX11_unpack cX11_unpack 6 (some (.object "NotationDesk$Part")) (3 + 8 * d) (83 + 400 * d) (.inl (some (vr r.1)), r.2) h 66 [(0, vr (some this)), (1, vr (some x1)), (2, vi x2), (3, vr x3), (4, vi x4)] []) (this : Nat) (x1 : Nat) (x2 : Int32) (x3 : Nat) (x4 : Int32) (x5 : Int32) (s0 : Nat) (s1 : Nat) (s2 : Int32) (s3 : Option Nat) (k_this : nd_Kd this = 7) (k_x1 : nd_Kd x1 = 3) (k_x3 : nd_Kd x3 = 13) (k_s0 : nd_Kd s0 = 7) (k_s1 : nd_Kd s1 = 13) (ok_s3 : ∀ b, s3 = some b → [13].contains (nd_Kd b) = true) (h : Hp) (hf : fX11_unpack_120 F d R_unpack k_66 this x1 x2 x3 x4 x5 s0 s1 s2 s3 h = some r) : nd_V l w yX11_unpack cX11_unpack 6 (some (.object "NotationDesk$Part")) (3 + 8 * d) (83 + 400 * d) (.inl (some (vr r.1)), r.2) h 120 [(0, vr (some this)), (1, vr (some x1)), (2, vi x2), (3, vr (some x3)), (4, vi x4), (5, vi x5)] [vr s3, vi s2, vr (some s1), vr (some s0)] := by
  unfold fX11_unpack_120 at hf
  refine nd_iload (j := 5) dX11_unpack_120 rfl ?_
  refine nd_aload_n (j := 1) dX11_unpack_122 rfl rfl ?_
  refine nd_getP (k := 4) dX11_unpack_123 k_x1 rfl (Nat.le_of_ble_eq_true rfl) (nd_flN q242) rfl (fun ok1 => ?_)
  replace hf := nnE hf
  obtain ⟨a2, e_a2, hf⟩ := hf
  refine nd_topr e_a2.symm ?_
  have k_a2 : nd_Kd a2 = 2 := nd_c1 (ok1 a2 e_a2)
  replace hf := caE hf
  obtain ⟨v4, h3, e_h3, hf⟩ := hf
  refine nd_Vi [] (tX11_add l w hfl F d k_s0 k_s1 ok_s3 k_a2 e_h3) rfl dX11_unpack_126 mw_X11_add (Or.inl q1013) k_s0 rfl q1015 qs21 (by omega) (by omega) (Nat.le_of_ble_eq_true rfl) ?_
  refine nd_if_ne (tgt := 134) dX11_unpack_129 (by decide) (fun c5 => ?_) (fun c5 => ?_)
  · replace hf := ifn c5 hf
    exact nd_loc [0, 1, 2, 3, 4] rfl (tX11_unpack_134 l w hfl F d R_unpack hR_unpack r k_66 hk_66 _ _ _ _ _ k_this k_x1 (fun b e => by cases e; rw [k_x3]; rfl) _ hf)
  · replace hf := ifp c5 hf
    refine nd_null dX11_unpack_132 ?_
    refine nd_astore_n [(3, vr none), (0, vr (some this)), (1, vr (some x1)), (2, vi x2), (4, vi x4), (5, vi x5)] dX11_unpack_133 rfl (Nat.le_of_ble_eq_true rfl) rfl ?_
    exact nd_loc [1, 2, 3, 0, 4] rfl (tX11_unpack_134 l w hfl F d R_unpack hR_unpack r k_66 hk_66 _ _ _ _ _ k_this k_x1 (fun b e => by cases e) _ hf)
set_option maxHeartbeats 4000000 in
theorem tX11_unpack_94 (l : Launch) (w : Wd) (hfl : l.stackTraces = false) (F d : Nat) (R_unpack : Nat → Nat → Hp → Option (Option Nat × Hp)) (hR_unpack : ∀ {b : Nat} {p0 : Nat} (k_b : [6, 7, 8, 9, 11, 12].contains (nd_Kd b) = true) (k_p0 : nd_Kd p0 = 3) {h : Hp} {r : Option Nat × Hp}, R_unpack b p0 h = some r → nc_unpack l w b (1 + 8 * d) (30 + 400 * d) [vr (some b), vr (some p0)] h (.inl (some (vr r.1)), r.2)) (r : Option Nat × Hp) (k_66 : Nat → Nat → Int32 → Option Nat → Int32 → Hp → Option (Option Nat × Hp)) (hk_66 : ∀ (this : Nat) (x1 : Nat) (x2 : Int32) (x3 : Option Nat) (x4 : Int32) (k_this : nd_Kd this = 7) (k_x1 : nd_Kd x1 = 3) (ok_x3 : ∀ b, x3 = some b → [13].contains (nd_Kd b) = true) (h : Hp), k_66 this x1 x2 x3 x4 h = some r → nd_V l w yX11_unpack cX11_unpack 6 (some (.object "NotationDesk$Part")) (3 + 8 * d) (83 + 400 * d) (.inl (some (vr r.1)), r.2) h 66 [(0, vr (some this)), (1, vr (some x1)), (2, vi x2), (3, vr x3), (4, vi x4)] []) (this : Nat) (x1 : Nat) (x2 : Int32) (x3 : Nat) (x4 : Int32) (s0 : Int32) (k_this : nd_Kd this = 7) (k_x1 : nd_Kd x1 = 3) (k_x3 : nd_Kd x3 = 13) (h : Hp) (hf : fX11_unpack_94 F d R_unpack k_66 this x1 x2 x3 x4 s0 h = some r) : nd_V l w yX11_unpack cX11_unpack 6 (some (.object "NotationDesk$Part")) (3 + 8 * d) (83 + 400 * d) (.inl (some (vr r.1)), r.2) h 94 [(0, vr (some this)), (1, vr (some x1)), (2, vi x2), (3, vr (some x3)), (4, vi x4)] [vi s0] := by
  unfold fX11_unpack_94 at hf
  refine nd_istore [(5, vi s0), (0, vr (some this)), (1, vr (some x1)), (2, vi x2), (3, vr (some x3)), (4, vi x4)] dX11_unpack_94 (Nat.le_of_ble_eq_true rfl) rfl ?_
  refine nd_aload_n (j := 1) dX11_unpack_96 rfl rfl ?_
  refine nd_aload_n (j := 4) dX11_unpack_97 rfl rfl ?_
  refine nd_iload (j := 5) dX11_unpack_98 rfl ?_
  refine nd_iload (j := 0) dX11_unpack_100 rfl ?_
  refine nd_if_eq (tgt := 119) dX11_unpack_102 (by decide) (fun c1 => ?_) (fun c1 => ?_)
  · replace hf := ifp c1 hf
    refine nd_null dX11_unpack_119 ?_
    exact nd_loc [1, 2, 3, 4, 5, 0] rfl (tX11_unpack_120 l w hfl F d R_unpack hR_unpack r k_66 hk_66 _ _ _ _ _ _ _ _ _ _ k_this k_x1 k_x3 k_this k_x3 (fun b e => by cases e) _ hf)
  · replace hf := ifn c1 hf
    refine nd_aload_n (j := 1) dX11_unpack_105 rfl rfl ?_
    refine nd_getP (k := 0) dX11_unpack_106 k_this rfl (Nat.le_of_ble_eq_true rfl) (nd_flS q482 q483) rfl (fun ok2 => ?_)
    replace hf := nnE hf
    obtain ⟨a3, e_a3, hf⟩ := hf
    refine nd_topr e_a3.symm ?_
    have k_a3 : nd_Kd a3 = 24 := nd_c1 (ok2 a3 e_a3)
    refine nd_iload (j := 5) dX11_unpack_109 rfl ?_
    replace hf := ckE hf
    obtain ⟨c4, hf⟩ := hf
    refine nd_aald (t := 4) (C := "NotationDesk$Type") dX11_unpack_111 k_a3 (by decide) (fun _ => rfl) c4 (fun ok5 => ?_)
    replace hf := bnE hf
    obtain ⟨o6, e_o6, hf⟩ := hf
    refine nd_topr e_o6 ?_
    have ok_o6 : ∀ b, o6 = some b → [6, 7, 8, 9, 11, 12].contains (nd_Kd b) = true := fun b q => ok5 b (e_o6 ▸ q)
    refine nd_aload_n (j := 2) dX11_unpack_112 rfl rfl ?_
    replace hf := nnE hf
    obtain ⟨a7, e_a7, hf⟩ := hf
    have k_a7 : [6, 7, 8, 9, 11, 12].contains (nd_Kd a7) = true := ok_o6 a7 e_a7
    subst e_a7
    replace hf := caE hf
    obtain ⟨v9, h8, e_h8, hf⟩ := hf
    refine nd_v_unpack [vi x4, vr (some x3), vr (some this)] (hR_unpack k_a7 k_x1 e_h8) rfl dX11_unpack_113 q995 k_a7 (by omega) (by omega) (Nat.le_of_ble_eq_true rfl) (fun ok10 => ?_)
    have ok_v9 : ∀ b, v9 = some b → [13].contains (nd_Kd b) = true := fun b q => okT13 (ok10 b q)
    refine nd_goto (tgt := 120) dX11_unpack_116 (by decide) ?_
    exact nd_loc [1, 2, 3, 4, 5, 0] rfl (tX11_unpack_120 l w hfl F d R_unpack hR_unpack r k_66 hk_66 _ _ _ _ _ _ _ _ _ _ k_this k_x1 k_x3 k_this k_x3 ok_v9 _ hf)
set_option maxHeartbeats 4000000 in
theorem tX11_unpack_66 (l : Launch) (w : Wd) (hfl : l.stackTraces = false) (F d : Nat) (R_unpack : Nat → Nat → Hp → Option (Option Nat × Hp)) (hR_unpack : ∀ {b : Nat} {p0 : Nat} (k_b : [6, 7, 8, 9, 11, 12].contains (nd_Kd b) = true) (k_p0 : nd_Kd p0 = 3) {h : Hp} {r : Option Nat × Hp}, R_unpack b p0 h = some r → nc_unpack l w b (1 + 8 * d) (30 + 400 * d) [vr (some b), vr (some p0)] h (.inl (some (vr r.1)), r.2)) (r : Option Nat × Hp) : ∀ (n : Nat) (this : Nat) (x1 : Nat) (x2 : Int32) (x3 : Option Nat) (x4 : Int32) (k_this : nd_Kd this = 7) (k_x1 : nd_Kd x1 = 3) (ok_x3 : ∀ b, x3 = some b → [13].contains (nd_Kd b) = true) (h : Hp), fX11_unpack_66 F d R_unpack n this x1 x2 x3 x4 h = some r → nd_V l w yX11_unpack cX11_unpack 6 (some (.object "NotationDesk$Part")) (3 + 8 * d) (83 + 400 * d) (.inl (some (vr r.1)), r.2) h 66 [(0, vr (some this)), (1, vr (some x1)), (2, vi x2), (3, vr x3), (4, vi x4)] [] := by
  intro n
  induction n with
  | zero => intro _ _ _ _ _ _ _ _ _ hf; cases hf
  | succ n ih =>
    intro this x1 x2 x3 x4 k_this k_x1 ok_x3 h hf
    unfold fX11_unpack_66 at hf
    refine nd_iload (j := 4) dX11_unpack_66 rfl ?_
    refine nd_aload_n (j := 0) dX11_unpack_68 rfl rfl ?_
    refine nd_getI (k := 1) dX11_unpack_69 k_this rfl (Nat.le_of_ble_eq_true rfl) (nd_flS q487 q488) rfl ?_
    refine nd_icmp_ge (tgt := 140) dX11_unpack_72 (by decide) (fun c1 => ?_) (fun c1 => ?_)
    · replace hf := ifp c1 hf
      refine nd_aload_n (j := 3) dX11_unpack_140 rfl rfl ?_
      cases hf
      exact nd_aret (fun b e => okT13' (ok_x3 b e)) dX11_unpack_141
    · replace hf := ifn c1 hf
      refine nd_aload_n (j := 3) dX11_unpack_75 rfl rfl ?_
      refine nd_ifnull (tgt := 140) dX11_unpack_76 (by decide) (fun e_a2 => ?_) (fun a2 e_a2 => ?_)
      · replace hf := ocN e_a2 hf
        subst e_a2
        refine nd_aload_n (j := 3) dX11_unpack_140 rfl rfl ?_
        cases hf
        exact nd_aret (fun b e => by cases e) dX11_unpack_141
      · replace hf := ocS e_a2 hf
        have k_a2 : nd_Kd a2 = 13 := nd_c1 (ok_x3 a2 e_a2)
        subst e_a2
        refine nd_iload_n (j := 2) dX11_unpack_79 rfl rfl ?_
        refine nd_iload (j := 4) dX11_unpack_80 rfl ?_
        refine nd_ishr dX11_unpack_82 ?_
        refine nd_iconst (v := 1) dX11_unpack_83 (by decide) ?_
        refine nd_iand dX11_unpack_84 ?_
        refine nd_iconst (v := 1) dX11_unpack_85 (by decide) ?_
        refine nd_icmp_ne (tgt := 93) dX11_unpack_86 (by decide) (fun c3 => ?_) (fun c3 => ?_)
        · replace hf := ifn c3 hf
          refine nd_iconst (v := 0) dX11_unpack_93 (by decide) ?_
          exact nd_loc [0, 1, 2, 3, 4] rfl (tX11_unpack_94 l w hfl F d R_unpack hR_unpack r (fX11_unpack_66 F d R_unpack n) ih _ _ _ _ _ _ k_this k_x1 k_a2 _ hf)
        · replace hf := ifp c3 hf
          refine nd_iconst (v := 1) dX11_unpack_89 (by decide) ?_
          refine nd_goto (tgt := 94) dX11_unpack_90 (by decide) ?_
          exact nd_loc [0, 1, 2, 3, 4] rfl (tX11_unpack_94 l w hfl F d R_unpack hR_unpack r (fX11_unpack_66 F d R_unpack n) ih _ _ _ _ _ _ k_this k_x1 k_a2 _ hf)
set_option maxHeartbeats 4000000 in
theorem tX11_unpack_62 (l : Launch) (w : Wd) (hfl : l.stackTraces = false) (F d : Nat) (R_unpack : Nat → Nat → Hp → Option (Option Nat × Hp)) (hR_unpack : ∀ {b : Nat} {p0 : Nat} (k_b : [6, 7, 8, 9, 11, 12].contains (nd_Kd b) = true) (k_p0 : nd_Kd p0 = 3) {h : Hp} {r : Option Nat × Hp}, R_unpack b p0 h = some r → nc_unpack l w b (1 + 8 * d) (30 + 400 * d) [vr (some b), vr (some p0)] h (.inl (some (vr r.1)), r.2)) (r : Option Nat × Hp) (this : Nat) (x1 : Nat) (x2 : Int32) (s0 : Option Nat) (k_this : nd_Kd this = 7) (k_x1 : nd_Kd x1 = 3) (ok_s0 : ∀ b, s0 = some b → [13].contains (nd_Kd b) = true) (h : Hp) (hf : fX11_unpack_62 F d R_unpack this x1 x2 s0 h = some r) : nd_V l w yX11_unpack cX11_unpack 6 (some (.object "NotationDesk$Part")) (3 + 8 * d) (83 + 400 * d) (.inl (some (vr r.1)), r.2) h 62 [(0, vr (some this)), (1, vr (some x1)), (2, vi x2)] [vr s0] := by
  unfold fX11_unpack_62 at hf
  refine nd_astore_n [(3, vr s0), (0, vr (some this)), (1, vr (some x1)), (2, vi x2)] dX11_unpack_62 rfl (Nat.le_of_ble_eq_true rfl) rfl ?_
  refine nd_iconst (v := 0) dX11_unpack_63 (by decide) ?_
  refine nd_istore [(4, vi 0), (3, vr s0), (0, vr (some this)), (1, vr (some x1)), (2, vi x2)] dX11_unpack_64 (Nat.le_of_ble_eq_true rfl) rfl ?_
  exact nd_loc [2, 3, 4, 1, 0] rfl (tX11_unpack_66 l w hfl F d R_unpack hR_unpack r F _ _ _ _ _ k_this k_x1 ok_s0 _ hf)
set_option maxHeartbeats 4000000 in
theorem tX11_unpack_31 (l : Launch) (w : Wd) (hfl : l.stackTraces = false) (F d : Nat) (R_unpack : Nat → Nat → Hp → Option (Option Nat × Hp)) (hR_unpack : ∀ {b : Nat} {p0 : Nat} (k_b : [6, 7, 8, 9, 11, 12].contains (nd_Kd b) = true) (k_p0 : nd_Kd p0 = 3) {h : Hp} {r : Option Nat × Hp}, R_unpack b p0 h = some r → nc_unpack l w b (1 + 8 * d) (30 + 400 * d) [vr (some b), vr (some p0)] h (.inl (some (vr r.1)), r.2)) (r : Option Nat × Hp) (k_4 : Nat → Nat → Int32 → Int32 → Hp → Option (Option Nat × Hp)) (hk_4 : ∀ (this : Nat) (x1 : Nat) (x2 : Int32) (x3 : Int32) (k_this : nd_Kd this = 7) (k_x1 : nd_Kd x1 = 3) (h : Hp), k_4 this x1 x2 x3 h = some r → nd_V l w yX11_unpack cX11_unpack 6 (some (.object "NotationDesk$Part")) (3 + 8 * d) (83 + 400 * d) (.inl (some (vr r.1)), r.2) h 4 [(0, vr (some this)), (1, vr (some x1)), (2, vi x2), (3, vi x3)] []) (this : Nat) (x1 : Nat) (x3 : Int32) (s0 : Int32) (s1 : Int32) (k_this : nd_Kd this = 7) (k_x1 : nd_Kd x1 = 3) (h : Hp) (hf : fX11_unpack_31 F d R_unpack k_4 this x1 x3 s0 s1 h = some r) : nd_V l w yX11_unpack cX11_unpack 6 (some (.object "NotationDesk$Part")) (3 + 8 * d) (83 + 400 * d) (.inl (some (vr r.1)), r.2) h 31 [(0, vr (some this)), (1, vr (some x1)), (3, vi x3)] [vi s1, vi s0] := by
  unfold fX11_unpack_31 at hf
  refine nd_iload_n (j := 2) dX11_unpack_31 rfl rfl ?_
  refine nd_ishl dX11_unpack_32 ?_
  refine nd_ior dX11_unpack_33 ?_
  replace hf := bnE hf
  obtain ⟨v1, e_v1, hf⟩ := hf
  refine nd_top e_v1 ?_
  refine nd_istore_n [(2, vi v1), (0, vr (some this)), (1, vr (some x1)), (3, vi x3)] dX11_unpack_34 rfl (Nat.le_of_ble_eq_true rfl) rfl ?_
  replace hf := bnE hf
  obtain ⟨v2, e_v2, hf⟩ := hf
  refine nd_iinc (v := v2) (j := 3) [(3, vi v2), (2, vi v1), (0, vr (some this)), (1, vr (some x1))] dX11_unpack_35 rfl (by rw [e_v2]; rfl) (Nat.le_of_ble_eq_true rfl) rfl ?_
  refine nd_goto (tgt := 4) dX11_unpack_38 (by decide) ?_
  exact nd_loc [2, 3, 1, 0] rfl (hk_4 _ _ _ _ k_this k_x1 _ hf)
set_option maxHeartbeats 4000000 in
theorem tX11_unpack_4 (l : Launch) (w : Wd) (hfl : l.stackTraces = false) (F d : Nat) (R_unpack : Nat → Nat → Hp → Option (Option Nat × Hp)) (hR_unpack : ∀ {b : Nat} {p0 : Nat} (k_b : [6, 7, 8, 9, 11, 12].contains (nd_Kd b) = true) (k_p0 : nd_Kd p0 = 3) {h : Hp} {r : Option Nat × Hp}, R_unpack b p0 h = some r → nc_unpack l w b (1 + 8 * d) (30 + 400 * d) [vr (some b), vr (some p0)] h (.inl (some (vr r.1)), r.2)) (r : Option Nat × Hp) : ∀ (n : Nat) (this : Nat) (x1 : Nat) (x2 : Int32) (x3 : Int32) (k_this : nd_Kd this = 7) (k_x1 : nd_Kd x1 = 3) (h : Hp), fX11_unpack_4 F d R_unpack n this x1 x2 x3 h = some r → nd_V l w yX11_unpack cX11_unpack 6 (some (.object "NotationDesk$Part")) (3 + 8 * d) (83 + 400 * d) (.inl (some (vr r.1)), r.2) h 4 [(0, vr (some this)), (1, vr (some x1)), (2, vi x2), (3, vi x3)] [] := by
  intro n
  induction n with
  | zero => intro _ _ _ _ _ _ _ hf; cases hf
  | succ n ih =>
    intro this x1 x2 x3 k_this k_x1 h hf
    unfold fX11_unpack_4 at hf
    refine nd_iload_n (j := 3) dX11_unpack_4 rfl rfl ?_
    refine nd_aload_n (j := 0) dX11_unpack_5 rfl rfl ?_
    refine nd_getI (k := 1) dX11_unpack_6 k_this rfl (Nat.le_of_ble_eq_true rfl) (nd_flS q487 q488) rfl ?_
    refine nd_icmp_ge (tgt := 41) dX11_unpack_9 (by decide) (fun c1 => ?_) (fun c1 => ?_)
    · replace hf := ifp c1 hf
      refine nd_aload_n (j := 1) dX11_unpack_41 rfl rfl ?_
      replace hf := caE hf
      obtain ⟨v3, h2, e_h2, hf⟩ := hf
      refine nd_Vi [] (tX4_isThere l w hfl F d k_x1 e_h2) rfl dX11_unpack_42 mw_X4_isThere (Or.inl q993) k_x1 rfl q886 q887 (by omega) (by omega) (Nat.le_of_ble_eq_true rfl) ?_
      refine nd_if_eq (tgt := 61) dX11_unpack_45 (by decide) (fun c4 => ?_) (fun c4 => ?_)
      · replace hf := ifp c4 hf
        refine nd_null dX11_unpack_61 ?_
        exact nd_loc [0, 1, 2] rfl (tX11_unpack_62 l w hfl F d R_unpack hR_unpack r _ _ _ _ k_this k_x1 (fun b e => by cases e) _ hf)
      · replace hf := ifn c4 hf
        refine nd_aload_n (j := 1) dX11_unpack_48 rfl rfl ?_
        refine nd_getP (k := 4) dX11_unpack_49 k_x1 rfl (Nat.le_of_ble_eq_true rfl) (nd_flN q242) rfl (fun ok5 => ?_)
        replace hf := nnE hf
        obtain ⟨a6, e_a6, hf⟩ := hf
        refine nd_topr e_a6.symm ?_
        have k_a6 : nd_Kd a6 = 2 := nd_c1 (ok5 a6 e_a6)
        refine nd_bipush (v := 6) dX11_unpack_52 (by decide) ?_
        refine nd_iconst (v := 0) dX11_unpack_54 (by decide) ?_
        replace hf := caE hf
        obtain ⟨v8, h7, e_h7, hf⟩ := hf
        refine nd_Vr [] (tX3_make l w hfl F d k_a6 e_h7) rfl dX11_unpack_55 mw_X3_make (Or.inl q994) k_a6 rfl q897 q898 (by omega) (by omega) (Nat.le_of_ble_eq_true rfl) (fun ok9 => ?_)
        have ok_v8 : ∀ b, v8 = some b → [13].contains (nd_Kd b) = true := fun b q => okT13 (ok9 b q)
        refine nd_goto (tgt := 62) dX11_unpack_58 (by decide) ?_
        exact nd_loc [0, 1, 2] rfl (tX11_unpack_62 l w hfl F d R_unpack hR_unpack r _ _ _ _ k_this k_x1 ok_v8 _ hf)
    · replace hf := ifn c1 hf
      refine nd_iload_n (j := 2) dX11_unpack_12 rfl rfl ?_
      refine nd_aload_n (j := 0) dX11_unpack_13 rfl rfl ?_
      refine nd_getP (k := 2) dX11_unpack_14 k_this rfl (Nat.le_of_ble_eq_true rfl) (nd_flO q475) rfl (fun ok10 => ?_)
      replace hf := nnE hf
      obtain ⟨a11, e_a11, hf⟩ := hf
      refine nd_topr e_a11.symm ?_
      have k_a11 : nd_Kd a11 = 20 := nd_c1 (ok10 a11 e_a11)
      refine nd_iload_n (j := 3) dX11_unpack_17 rfl rfl ?_
      replace hf := ckE hf
      obtain ⟨c12, hf⟩ := hf
      refine nd_iald dX11_unpack_18 k_a11 c12 ?_
      refine nd_if_ne (tgt := 26) dX11_unpack_19 (by decide) (fun c13 => ?_) (fun c13 => ?_)
      · replace hf := ifn c13 hf
        refine nd_aload_n (j := 1) dX11_unpack_26 rfl rfl ?_
        refine nd_iconst (v := 1) dX11_unpack_27 (by decide) ?_
        replace hf := caE hf
        obtain ⟨v15, h14, e_h14, hf⟩ := hf
        refine nd_Vi [vi x2] (tX4_take l w hfl F d k_x1 e_h14) rfl dX11_unpack_28 mw_X4_take (Or.inl q992) k_x1 rfl q879 q880 (by omega) (by omega) (Nat.le_of_ble_eq_true rfl) ?_
        exact nd_loc [0, 1, 3] rfl (tX11_unpack_31 l w hfl F d R_unpack hR_unpack r (fX11_unpack_4 F d R_unpack n) ih _ _ _ _ _ k_this k_x1 _ hf)
      · replace hf := ifp c13 hf
        refine nd_iconst (v := 1) dX11_unpack_22 (by decide) ?_
        refine nd_goto (tgt := 31) dX11_unpack_23 (by decide) ?_
        exact nd_loc [0, 1, 3] rfl (tX11_unpack_31 l w hfl F d R_unpack hR_unpack r (fX11_unpack_4 F d R_unpack n) ih _ _ _ _ _ k_this k_x1 _ hf)
set_option maxHeartbeats 4000000 in
theorem tX11_unpack (l : Launch) (w : Wd) (hfl : l.stackTraces = false) (F d : Nat) (R_unpack : Nat → Nat → Hp → Option (Option Nat × Hp)) (hR_unpack : ∀ {b : Nat} {p0 : Nat} (k_b : [6, 7, 8, 9, 11, 12].contains (nd_Kd b) = true) (k_p0 : nd_Kd p0 = 3) {h : Hp} {r : Option Nat × Hp}, R_unpack b p0 h = some r → nc_unpack l w b (1 + 8 * d) (30 + 400 * d) [vr (some b), vr (some p0)] h (.inl (some (vr r.1)), r.2)) {this : Nat} {p0 : Nat} (k_this : nd_Kd this = 7) (k_p0 : nd_Kd p0 = 3) {h : Hp} {r : Option Nat × Hp} (hf : fX11_unpack F d R_unpack this p0 h = some r) : nd_C l w yX11_unpack cX11_unpack 6 (some (.object "NotationDesk$Part")) (3 + 8 * d) (83 + 400 * d) [vr (some this), vr (some p0)] h (.inl (some (vr r.1)), r.2) := by
  refine nd_start (as := [vr (some this), vr (some p0)]) hfl (by decide) (Nat.le_of_ble_eq_true rfl) ?_
  unfold fX11_unpack at hf
  refine nd_eqL (L' := [(0, vr (some this)), (1, vr (some p0))]) rfl ?_
  refine nd_iconst (v := 0) dX11_unpack_0 (by decide) ?_
  refine nd_istore_n [(2, vi 0), (0, vr (some this)), (1, vr (some p0))] dX11_unpack_1 rfl (Nat.le_of_ble_eq_true rfl) rfl ?_
  refine nd_iconst (v := 0) dX11_unpack_2 (by decide) ?_
  refine nd_istore_n [(3, vi 0), (2, vi 0), (0, vr (some this)), (1, vr (some p0))] dX11_unpack_3 rfl (Nat.le_of_ble_eq_true rfl) rfl ?_
  exact nd_loc [2, 3, 1, 0] rfl (tX11_unpack_4 l w hfl F d R_unpack hR_unpack r F _ _ _ _ k_this k_p0 _ hf)
def fX5_header_43 (F d : Nat) (this : Nat) (x2 : Int32) (h : Hp) : Option (Hp) :=
  cv (fX5_add F d this (x2 &&& 255) h) fun h1 => (
  some h1)
def fX5_header (F d : Nat) (this : Nat) (p0 : Int32) (p1 : Int32) (h : Hp) : Option (Hp) :=
  cv (fX5_add F d this p0 h) fun h1 => (
  if p1 ≤ 255 then
  (if p1 ≤ 127 then
  (fX5_header_43 F d this p1 h1)
  else
  (cv (fX5_add F d this 129 h1) fun h5 => (
  fX5_header_43 F d this p1 h5)))
  else
  (cv (fX5_add F d this 130 h1) fun h7 => (
  cv (fX5_add F d this (p1 >>> (8 &&& 31)) h7) fun h9 => (
  fX5_header_43 F d this p1 h9))))
set_option maxHeartbeats 4000000 in
theorem tX5_header_43 (l : Launch) (w : Wd) (hfl : l.stackTraces = false) (F d : Nat) (r : Hp) (this : Nat) (x2 : Int32) (k_this : nd_Kd this = 4) (h : Hp) (hf : fX5_header_43 F d this x2 h = some r) : nd_V l w yX5_header cX5_header 3 none 2 44 (.inl none, r) h 43 [(0, vr (some this)), (2, vi x2)] [] := by
  unfold fX5_header_43 at hf
  refine nd_aload_n (j := 0) dX5_header_43 rfl rfl ?_
  refine nd_iload_n (j := 1) dX5_header_44 rfl rfl ?_
  refine nd_sipush (v := 255) dX5_header_45 (by decide) ?_
  refine nd_iand dX5_header_48 ?_
  replace hf := cvE hf
  obtain ⟨h1, e_h1, hf⟩ := hf
  refine nd_Vv [] (tX5_add l w hfl F d k_this e_h1) rfl dX5_header_49 mw_X5_add (Or.inl q1135) k_this rfl q1136 q1137 (by omega) (by omega) (Nat.le_of_ble_eq_true rfl) ?_
  cases hf
  exact nd_vret dX5_header_52
set_option maxHeartbeats 4000000 in
theorem tX5_header (l : Launch) (w : Wd) (hfl : l.stackTraces = false) (F d : Nat) {this : Nat} {p0 : Int32} {p1 : Int32} (k_this : nd_Kd this = 4) {h : Hp} {r : Hp} (hf : fX5_header F d this p0 p1 h = some r) : nd_C l w yX5_header cX5_header 3 none 2 44 [vr (some this), vi p0, vi p1] h (.inl none, r) := by
  refine nd_start (as := [vr (some this), vi p0, vi p1]) hfl (by decide) (Nat.le_of_ble_eq_true rfl) ?_
  unfold fX5_header at hf
  refine nd_eqL (L' := [(0, vr (some this)), (1, vi p0), (2, vi p1)]) rfl ?_
  refine nd_aload_n (j := 0) dX5_header_0 rfl rfl ?_
  refine nd_iload_n (j := 1) dX5_header_1 rfl rfl ?_
  replace hf := cvE hf
  obtain ⟨h1, e_h1, hf⟩ := hf
  refine nd_Vv [] (tX5_add l w hfl F d k_this e_h1) rfl dX5_header_2 mw_X5_add (Or.inl q1135) k_this rfl q1136 q1137 (by omega) (by omega) (Nat.le_of_ble_eq_true rfl) ?_
  refine nd_iload_n (j := 2) dX5_header_5 rfl rfl ?_
  refine nd_sipush (v := 255) dX5_header_6 (by decide) ?_
  refine nd_icmp_le (tgt := 30) dX5_header_9 (by decide) (fun c3 => ?_) (fun c3 => ?_)
  · replace hf := ifp c3 hf
    refine nd_iload_n (j := 2) dX5_header_30 rfl rfl ?_
    refine nd_bipush (v := 127) dX5_header_31 (by decide) ?_
    refine nd_icmp_le (tgt := 43) dX5_header_33 (by decide) (fun c4 => ?_) (fun c4 => ?_)
    · replace hf := ifp c4 hf
      exact nd_loc [0, 2] rfl (tX5_header_43 l w hfl F d r _ _ k_this _ hf)
    · replace hf := ifn c4 hf
      refine nd_aload_n (j := 0) dX5_header_36 rfl rfl ?_
      refine nd_sipush (v := 129) dX5_header_37 (by decide) ?_
      replace hf := cvE hf
      obtain ⟨h5, e_h5, hf⟩ := hf
      refine nd_Vv [] (tX5_add l w hfl F d k_this e_h5) rfl dX5_header_40 mw_X5_add (Or.inl q1135) k_this rfl q1136 q1137 (by omega) (by omega) (Nat.le_of_ble_eq_true rfl) ?_
      exact nd_loc [0, 2] rfl (tX5_header_43 l w hfl F d r _ _ k_this _ hf)
  · replace hf := ifn c3 hf
    refine nd_aload_n (j := 0) dX5_header_12 rfl rfl ?_
    refine nd_sipush (v := 130) dX5_header_13 (by decide) ?_
    replace hf := cvE hf
    obtain ⟨h7, e_h7, hf⟩ := hf
    refine nd_Vv [] (tX5_add l w hfl F d k_this e_h7) rfl dX5_header_16 mw_X5_add (Or.inl q1135) k_this rfl q1136 q1137 (by omega) (by omega) (Nat.le_of_ble_eq_true rfl) ?_
    refine nd_aload_n (j := 0) dX5_header_19 rfl rfl ?_
    refine nd_iload_n (j := 2) dX5_header_20 rfl rfl ?_
    refine nd_bipush (v := 8) dX5_header_21 (by decide) ?_
    refine nd_ishr dX5_header_23 ?_
    replace hf := cvE hf
    obtain ⟨h9, e_h9, hf⟩ := hf
    refine nd_Vv [] (tX5_add l w hfl F d k_this e_h9) rfl dX5_header_24 mw_X5_add (Or.inl q1135) k_this rfl q1136 q1137 (by omega) (by omega) (Nat.le_of_ble_eq_true rfl) ?_
    refine nd_goto (tgt := 43) dX5_header_27 (by decide) ?_
    exact nd_loc [0, 2] rfl (tX5_header_43 l w hfl F d r _ _ k_this _ hf)
def fX15_content_7 (F d : Nat) (R_size : Nat → Nat → Hp → Option (Int32 × Hp)) : Nat → Nat → Int32 → Option Nat → Hp → Option (Int32 × Hp)
  | 0, _, _, _, _ => none
  | n + 1, this, x2, x3, h =>
    oc x3
    (some (x2, h))
    (fun a1 =>
    bn (gP h 1501 this) fun o3 => (
    nn o3 fun a4 => (
    ca (R_size a4 a1 h) fun v6 h5 => (
    bn (x2 + v6) fun v7 => (
    bn (gP h5 1708 a1) fun o9 => (
    fX15_content_7 F d R_size n this v7 o9 h5))))))
def fX15_content (F d : Nat) (R_size : Nat → Nat → Hp → Option (Int32 × Hp)) (this : Nat) (p0 : Nat) (h : Hp) : Option (Int32 × Hp) :=
  bn (gP h 1706 p0) fun o2 => (
  fX15_content_7 F d R_size F this 0 o2 h)
set_option maxHeartbeats 4000000 in
theorem tX15_content_7 (l : Launch) (w : Wd) (hfl : l.stackTraces = false) (F d : Nat) (R_size : Nat → Nat → Hp → Option (Int32 × Hp)) (hR_size : ∀ {b : Nat} {p0 : Nat} (k_b : [6, 7, 8, 9, 11, 12].contains (nd_Kd b) = true) (k_p0 : nd_Kd p0 = 13) {h : Hp} {r : Int32 × Hp}, R_size b p0 h = some r → nc_size l w b (1 + 8 * d) (30 + 400 * d) [vr (some b), vr (some p0)] h (.inl (some (vi r.1)), r.2)) (r : Int32 × Hp) : ∀ (n : Nat) (this : Nat) (x2 : Int32) (x3 : Option Nat) (k_this : nd_Kd this = 11) (ok_x3 : ∀ b, x3 = some b → [13].contains (nd_Kd b) = true) (h : Hp), fX15_content_7 F d R_size n this x2 x3 h = some r → nd_V l w yX15_content cX15_content 4 (some .int) (2 + 8 * d) (51 + 400 * d) (.inl (some (vi r.1)), r.2) h 7 [(0, vr (some this)), (2, vi x2), (3, vr x3)] [] := by
  intro n
  induction n with
  | zero => intro _ _ _ _ _ _ hf; cases hf
  | succ n ih =>
    intro this x2 x3 k_this ok_x3 h hf
    unfold fX15_content_7 at hf
    refine nd_aload_n (j := 2) dX15_content_7 rfl rfl ?_
    refine nd_ifnull (tgt := 30) dX15_content_8 (by decide) (fun e_a1 => ?_) (fun a1 e_a1 => ?_)
    · replace hf := ocN e_a1 hf
      subst e_a1
      refine nd_iload_n (j := 1) dX15_content_30 rfl rfl ?_
      cases hf
      exact nd_iret (v := x2) dX15_content_31
    · replace hf := ocS e_a1 hf
      have k_a1 : nd_Kd a1 = 13 := nd_c1 (ok_x3 a1 e_a1)
      subst e_a1
      refine nd_iload_n (j := 1) dX15_content_11 rfl rfl ?_
      refine nd_aload_n (j := 0) dX15_content_12 rfl rfl ?_
      refine nd_getP (k := 1) dX15_content_13 k_this rfl (Nat.le_of_ble_eq_true rfl) (nd_flO q634) rfl (fun ok2 => ?_)
      replace hf := bnE hf
      obtain ⟨o3, e_o3, hf⟩ := hf
      refine nd_topr e_o3 ?_
      have ok_o3 : ∀ b, o3 = some b → [6, 7, 8, 9, 11, 12].contains (nd_Kd b) = true := fun b q => ok2 b (e_o3 ▸ q)
      refine nd_aload_n (j := 2) dX15_content_16 rfl rfl ?_
      replace hf := nnE hf
      obtain ⟨a4, e_a4, hf⟩ := hf
      have k_a4 : [6, 7, 8, 9, 11, 12].contains (nd_Kd a4) = true := ok_o3 a4 e_a4
      subst e_a4
      replace hf := caE hf
      obtain ⟨v6, h5, e_h5, hf⟩ := hf
      refine nd_v_size [vi x2] (hR_size k_a4 k_a1 e_h5) rfl dX15_content_17 q1194 k_a4 (by omega) (by omega) (Nat.le_of_ble_eq_true rfl) ?_
      refine nd_iadd dX15_content_20 ?_
      replace hf := bnE hf
      obtain ⟨v7, e_v7, hf⟩ := hf
      refine nd_top e_v7 ?_
      refine nd_istore_n [(2, vi v7), (0, vr (some this)), (3, vr (some a1))] dX15_content_21 rfl (Nat.le_of_ble_eq_true rfl) rfl ?_
      refine nd_aload_n (j := 2) dX15_content_22 rfl rfl ?_
      refine nd_getP (k := 8) dX15_content_23 k_a1 rfl (Nat.le_of_ble_eq_true rfl) (nd_flN q931) rfl (fun ok8 => ?_)
      replace hf := bnE hf
      obtain ⟨o9, e_o9, hf⟩ := hf
      refine nd_topr e_o9 ?_
      have ok_o9 : ∀ b, o9 = some b → [13].contains (nd_Kd b) = true := fun b q => ok8 b (e_o9 ▸ q)
      refine nd_astore_n [(3, vr o9), (2, vi v7), (0, vr (some this))] dX15_content_26 rfl (Nat.le_of_ble_eq_true rfl) rfl ?_
      refine nd_goto (tgt := 7) dX15_content_27 (by decide) ?_
      exact nd_loc [2, 1, 0] rfl (ih _ _ _ k_this ok_o9 _ hf)
set_option maxHeartbeats 4000000 in
theorem tX15_content (l : Launch) (w : Wd) (hfl : l.stackTraces = false) (F d : Nat) (R_size : Nat → Nat → Hp → Option (Int32 × Hp)) (hR_size : ∀ {b : Nat} {p0 : Nat} (k_b : [6, 7, 8, 9, 11, 12].contains (nd_Kd b) = true) (k_p0 : nd_Kd p0 = 13) {h : Hp} {r : Int32 × Hp}, R_size b p0 h = some r → nc_size l w b (1 + 8 * d) (30 + 400 * d) [vr (some b), vr (some p0)] h (.inl (some (vi r.1)), r.2)) {this : Nat} {p0 : Nat} (k_this : nd_Kd this = 11) (k_p0 : nd_Kd p0 = 13) {h : Hp} {r : Int32 × Hp} (hf : fX15_content F d R_size this p0 h = some r) : nd_C l w yX15_content cX15_content 4 (some .int) (2 + 8 * d) (51 + 400 * d) [vr (some this), vr (some p0)] h (.inl (some (vi r.1)), r.2) := by
  refine nd_start (as := [vr (some this), vr (some p0)]) hfl (by decide) (Nat.le_of_ble_eq_true rfl) ?_
  unfold fX15_content at hf
  refine nd_eqL (L' := [(0, vr (some this)), (1, vr (some p0))]) rfl ?_
  refine nd_iconst (v := 0) dX15_content_0 (by decide) ?_
  refine nd_istore_n [(2, vi 0), (0, vr (some this)), (1, vr (some p0))] dX15_content_1 rfl (Nat.le_of_ble_eq_true rfl) rfl ?_
  refine nd_aload_n (j := 2) dX15_content_2 rfl rfl ?_
  refine nd_getP (k := 6) dX15_content_3 k_p0 rfl (Nat.le_of_ble_eq_true rfl) (nd_flN q925) rfl (fun ok1 => ?_)
  replace hf := bnE hf
  obtain ⟨o2, e_o2, hf⟩ := hf
  refine nd_topr e_o2 ?_
  have ok_o2 : ∀ b, o2 = some b → [13].contains (nd_Kd b) = true := fun b q => ok1 b (e_o2 ▸ q)
  refine nd_astore_n [(3, vr o2), (2, vi 0), (0, vr (some this)), (1, vr (some p0))] dX15_content_6 rfl (Nat.le_of_ble_eq_true rfl) rfl ?_
  exact nd_loc [2, 1, 0] rfl (tX15_content_7 l w hfl F d R_size hR_size r F _ _ _ k_this ok_o2 _ hf)
def fX15_size (F d : Nat) (R_size : Nat → Nat → Hp → Option (Int32 × Hp)) (this : Nat) (p0 : Nat) (h : Hp) : Option (Int32 × Hp) :=
  ca (fX15_content F d R_size this p0 h) fun v2 h1 => (
  ca (fX1_headed F d v2 h1) fun v4 h3 => (
  some (v4, h3)))
set_option maxHeartbeats 4000000 in
theorem tX15_size (l : Launch) (w : Wd) (hfl : l.stackTraces = false) (F d : Nat) (R_size : Nat → Nat → Hp → Option (Int32 × Hp)) (hR_size : ∀ {b : Nat} {p0 : Nat} (k_b : [6, 7, 8, 9, 11, 12].contains (nd_Kd b) = true) (k_p0 : nd_Kd p0 = 13) {h : Hp} {r : Int32 × Hp}, R_size b p0 h = some r → nc_size l w b (1 + 8 * d) (30 + 400 * d) [vr (some b), vr (some p0)] h (.inl (some (vi r.1)), r.2)) {this : Nat} {p0 : Nat} (k_this : nd_Kd this = 11) (k_p0 : nd_Kd p0 = 13) {h : Hp} {r : Int32 × Hp} (hf : fX15_size F d R_size this p0 h = some r) : nd_C l w yX15_size cX15_size 2 (some .int) (3 + 8 * d) (74 + 400 * d) [vr (some this), vr (some p0)] h (.inl (some (vi r.1)), r.2) := by
  refine nd_start (as := [vr (some this), vr (some p0)]) hfl (by decide) (Nat.le_of_ble_eq_true rfl) ?_
  unfold fX15_size at hf
  refine nd_eqL (L' := [(0, vr (some this)), (1, vr (some p0))]) rfl ?_
  refine nd_aload_n (j := 0) dX15_size_0 rfl rfl ?_
  refine nd_aload_n (j := 1) dX15_size_1 rfl rfl ?_
  replace hf := caE hf
  obtain ⟨v2, h1, e_h1, hf⟩ := hf
  refine nd_Vi [] (tX15_content l w hfl F d R_size hR_size k_this k_p0 e_h1) rfl dX15_size_2 mw_X15_content (Or.inl q1190) k_this rfl q1192 qs25 (by omega) (by omega) (Nat.le_of_ble_eq_true rfl) ?_
  replace hf := caE hf
  obtain ⟨v4, h3, e_h3, hf⟩ := hf
  refine nd_Si [] (tX1_headed l w hfl F d e_h3) rfl dX15_size_5 mw_X1_headed (Or.inr ⟨_, q1199⟩) q1183 (by omega) (by omega) (Nat.le_of_ble_eq_true rfl) ?_
  cases hf
  exact nd_iret (v := v4) dX15_size_8
def v_content (F d : Nat) (b : Nat) (p0 : Nat) (h : Hp) : Option (Int32 × Hp) :=
    if nd_Kd b = 6 then fX9_content F d b p0 h
    else if nd_Kd b = 9 then fX13_content F d b p0 h
    else none
set_option maxHeartbeats 4000000 in
theorem tv_content (l : Launch) (w : Wd) (hfl : l.stackTraces = false) (F d : Nat) {b : Nat} {p0 : Nat} (k_b : [6, 9].contains (nd_Kd b) = true) (k_p0 : nd_Kd p0 = 13) {h : Hp} {r : Int32 × Hp} (hf : v_content F d b p0 h = some r) : nc_content l w b 2 42 [vr (some b), vr (some p0)] h (.inl (some (vi r.1)), r.2) := by
  unfold v_content at hf
  refine ⟨fun e_ => ?_, fun e_ => ?_⟩
  · rw [if_pos e_] at hf
    exact nd_C.room (tX9_content l w hfl F d e_ k_p0 hf) (by omega) (by omega)
  · rw [if_neg (by omega)] at hf; rw [if_pos e_] at hf
    exact nd_C.room (tX13_content l w hfl F d e_ k_p0 hf) (by omega) (by omega)
def fX8_size (F d : Nat) (this : Nat) (p0 : Nat) (h : Hp) : Option (Int32 × Hp) :=
  ca (v_content F d this p0 h) fun v2 h1 => (
  ca (fX1_headed F d v2 h1) fun v4 h3 => (
  some (v4, h3)))
set_option maxHeartbeats 4000000 in
theorem tX8_size (l : Launch) (w : Wd) (hfl : l.stackTraces = false) (F d : Nat) {this : Nat} {p0 : Nat} (k_this : [6, 9].contains (nd_Kd this) = true) (k_p0 : nd_Kd p0 = 13) {h : Hp} {r : Int32 × Hp} (hf : fX8_size F d this p0 h = some r) : nd_C l w yX8_size cX8_size 2 (some .int) 3 63 [vr (some this), vr (some p0)] h (.inl (some (vi r.1)), r.2) := by
  refine nd_start (as := [vr (some this), vr (some p0)]) hfl (by decide) (Nat.le_of_ble_eq_true rfl) ?_
  unfold fX8_size at hf
  refine nd_eqL (L' := [(0, vr (some this)), (1, vr (some p0))]) rfl ?_
  refine nd_aload_n (j := 0) dX8_size_0 rfl rfl ?_
  refine nd_aload_n (j := 1) dX8_size_1 rfl rfl ?_
  replace hf := caE hf
  obtain ⟨v2, h1, e_h1, hf⟩ := hf
  refine nd_v_content [] (tv_content l w hfl F d k_this k_p0 e_h1) rfl dX8_size_2 q1122 k_this (by omega) (by omega) (Nat.le_of_ble_eq_true rfl) ?_
  replace hf := caE hf
  obtain ⟨v4, h3, e_h3, hf⟩ := hf
  refine nd_Si [] (tX1_headed l w hfl F d e_h3) rfl dX8_size_5 mw_X1_headed (Or.inr ⟨_, q1182⟩) q1183 (by omega) (by omega) (Nat.le_of_ble_eq_true rfl) ?_
  cases hf
  exact nd_iret (v := v4) dX8_size_8
def fX16_size (F d : Nat) (R_size : Nat → Nat → Hp → Option (Int32 × Hp)) (this : Nat) (p0 : Nat) (h : Hp) : Option (Int32 × Hp) :=
  if (gI h 1601 this) = 0 then
  (nn (gP h 1602 this) fun a3 => (
  ca (R_size a3 p0 h) fun v5 h4 => (
  some (v5, h4))))
  else
  (nn (gP h 1602 this) fun a7 => (
  ca (R_size a7 p0 h) fun v9 h8 => (
  ca (fX1_headed F d v9 h8) fun v11 h10 => (
  some (v11, h10)))))
set_option maxHeartbeats 4000000 in
theorem tX16_size (l : Launch) (w : Wd) (hfl : l.stackTraces = false) (F d : Nat) (R_size : Nat → Nat → Hp → Option (Int32 × Hp)) (hR_size : ∀ {b : Nat} {p0 : Nat} (k_b : [6, 7, 8, 9, 11, 12].contains (nd_Kd b) = true) (k_p0 : nd_Kd p0 = 13) {h : Hp} {r : Int32 × Hp}, R_size b p0 h = some r → nc_size l w b (1 + 8 * d) (30 + 400 * d) [vr (some b), vr (some p0)] h (.inl (some (vi r.1)), r.2)) {this : Nat} {p0 : Nat} (k_this : nd_Kd this = 12) (k_p0 : nd_Kd p0 = 13) {h : Hp} {r : Int32 × Hp} (hf : fX16_size F d R_size this p0 h = some r) : nd_C l w yX16_size cX16_size 2 (some .int) (2 + 8 * d) (51 + 400 * d) [vr (some this), vr (some p0)] h (.inl (some (vi r.1)), r.2) := by
  refine nd_start (as := [vr (some this), vr (some p0)]) hfl (by decide) (Nat.le_of_ble_eq_true rfl) ?_
  unfold fX16_size at hf
  refine nd_eqL (L' := [(0, vr (some this)), (1, vr (some p0))]) rfl ?_
  refine nd_aload_n (j := 0) dX16_size_0 rfl rfl ?_
  refine nd_getI (k := 1) dX16_size_1 k_this rfl (Nat.le_of_ble_eq_true rfl) (nd_flO q647) rfl ?_
  refine nd_if_eq (tgt := 21) dX16_size_4 (by decide) (fun c1 => ?_) (fun c1 => ?_)
  · replace hf := ifp c1 hf
    refine nd_aload_n (j := 0) dX16_size_21 rfl rfl ?_
    refine nd_getP (k := 2) dX16_size_22 k_this rfl (Nat.le_of_ble_eq_true rfl) (nd_flO q648) rfl (fun ok2 => ?_)
    replace hf := nnE hf
    obtain ⟨a3, e_a3, hf⟩ := hf
    refine nd_topr e_a3.symm ?_
    have k_a3 : [6, 7, 8, 9, 11, 12].contains (nd_Kd a3) = true := ok2 a3 e_a3
    refine nd_aload_n (j := 1) dX16_size_25 rfl rfl ?_
    replace hf := caE hf
    obtain ⟨v5, h4, e_h4, hf⟩ := hf
    refine nd_v_size [] (hR_size k_a3 k_p0 e_h4) rfl dX16_size_26 q1197 k_a3 (by omega) (by omega) (Nat.le_of_ble_eq_true rfl) ?_
    cases hf
    exact nd_iret (v := v5) dX16_size_29
  · replace hf := ifn c1 hf
    refine nd_aload_n (j := 0) dX16_size_7 rfl rfl ?_
    refine nd_getP (k := 2) dX16_size_8 k_this rfl (Nat.le_of_ble_eq_true rfl) (nd_flO q648) rfl (fun ok6 => ?_)
    replace hf := nnE hf
    obtain ⟨a7, e_a7, hf⟩ := hf
    refine nd_topr e_a7.symm ?_
    have k_a7 : [6, 7, 8, 9, 11, 12].contains (nd_Kd a7) = true := ok6 a7 e_a7
    refine nd_aload_n (j := 1) dX16_size_11 rfl rfl ?_
    replace hf := caE hf
    obtain ⟨v9, h8, e_h8, hf⟩ := hf
    refine nd_v_size [] (hR_size k_a7 k_p0 e_h8) rfl dX16_size_12 q1197 k_a7 (by omega) (by omega) (Nat.le_of_ble_eq_true rfl) ?_
    replace hf := caE hf
    obtain ⟨v11, h10, e_h10, hf⟩ := hf
    refine nd_Si [] (tX1_headed l w hfl F d e_h10) rfl dX16_size_15 mw_X1_headed (Or.inr ⟨_, q1198⟩) q1183 (by omega) (by omega) (Nat.le_of_ble_eq_true rfl) ?_
    refine nd_goto (tgt := 29) dX16_size_18 (by decide) ?_
    cases hf
    exact nd_iret (v := v11) dX16_size_29
def v_size (F : Nat) : Nat → Nat → Nat → Hp → Option (Int32 × Hp)
  | 0, _, _, _ => none
  | d + 1, b, p0, h =>
    if nd_Kd b = 6 then fX8_size F d b p0 h
    else if nd_Kd b = 7 then fX11_size F d (v_size F d) b p0 h
    else if nd_Kd b = 8 then fX12_size F d (v_size F d) b p0 h
    else if nd_Kd b = 9 then fX8_size F d b p0 h
    else if nd_Kd b = 11 then fX15_size F d (v_size F d) b p0 h
    else if nd_Kd b = 12 then fX16_size F d (v_size F d) b p0 h
    else none
set_option maxHeartbeats 4000000 in
theorem tv_size (l : Launch) (w : Wd) (hfl : l.stackTraces = false) (F : Nat) : ∀ (d : Nat) {b : Nat} {p0 : Nat} (k_b : [6, 7, 8, 9, 11, 12].contains (nd_Kd b) = true) (k_p0 : nd_Kd p0 = 13) {h : Hp} {r : Int32 × Hp}, v_size F d b p0 h = some r → nc_size l w b (1 + 8 * d) (30 + 400 * d) [vr (some b), vr (some p0)] h (.inl (some (vi r.1)), r.2) := by
  intro d
  induction d with
  | zero => intro b p0 k_b k_p0 h r hf; cases hf
  | succ d ih =>
    intro b p0 k_b k_p0 h r hf
    unfold v_size at hf
    refine ⟨fun e_ => ?_, fun e_ => ?_, fun e_ => ?_, fun e_ => ?_, fun e_ => ?_, fun e_ => ?_⟩
    · rw [if_pos e_] at hf
      exact nd_C.room (tX8_size l w hfl F d (by rw [e_]; rfl) k_p0 hf) (by omega) (by omega)
    · rw [if_neg (by omega)] at hf; rw [if_pos e_] at hf
      exact nd_C.room (tX11_size l w hfl F d (v_size F d) (ih) e_ k_p0 hf) (by omega) (by omega)
    · rw [if_neg (by omega)] at hf; rw [if_neg (by omega)] at hf; rw [if_pos e_] at hf
      exact nd_C.room (tX12_size l w hfl F d (v_size F d) (ih) e_ k_p0 hf) (by omega) (by omega)
    · rw [if_neg (by omega)] at hf; rw [if_neg (by omega)] at hf; rw [if_neg (by omega)] at hf; rw [if_pos e_] at hf
      exact nd_C.room (tX8_size l w hfl F d (by rw [e_]; rfl) k_p0 hf) (by omega) (by omega)
    · rw [if_neg (by omega)] at hf; rw [if_neg (by omega)] at hf; rw [if_neg (by omega)] at hf; rw [if_neg (by omega)] at hf; rw [if_pos e_] at hf
      exact nd_C.room (tX15_size l w hfl F d (v_size F d) (ih) e_ k_p0 hf) (by omega) (by omega)
    · rw [if_neg (by omega)] at hf; rw [if_neg (by omega)] at hf; rw [if_neg (by omega)] at hf; rw [if_neg (by omega)] at hf; rw [if_neg (by omega)] at hf; rw [if_pos e_] at hf
      exact nd_C.room (tX16_size l w hfl F d (v_size F d) (ih) e_ k_p0 hf) (by omega) (by omega)
def fX11_write_64 (F d : Nat) (R_write : Nat → Nat → Nat → Int32 → Hp → Option (Hp)) (k_27 : Nat → Nat → Nat → Int32 → Hp → Option (Hp)) (this : Nat) (x1 : Nat) (x2 : Nat) (x4 : Int32) (h : Hp) : Option (Hp) :=
  bn (x4 + 1) fun v1 => (
  k_27 this x1 x2 v1 h)
def fX11_write_27 (F d : Nat) (R_write : Nat → Nat → Nat → Int32 → Hp → Option (Hp)) : Nat → Nat → Nat → Nat → Int32 → Hp → Option (Hp)
  | 0, _, _, _, _, _ => none
  | n + 1, this, x1, x2, x4, h =>
    if (gI h 1001 this) ≤ x4 then
    (some h)
    else
    (ca (fX11_isWritten F d this x1 x4 h) fun v3 h2 => (
    if v3 = 0 then
    (fX11_write_64 F d R_write (fX11_write_27 F d R_write n) this x1 x2 x4 h2)
    else
    (nn (gP h2 1000 this) fun a6 => (
    ck (inb x4 (nd_Ln a6)) (
    bn (gR h2 a6 (Int32.toNatClampNeg x4)) fun o9 => (
    ca (fX17_component F d x1 x4 h2) fun v11 h10 => (
    nn o9 fun a13 => (
    nn v11 fun a14 => (
    cv (R_write a13 a14 x2 (-1) h10) fun h15 => (
    fX11_write_64 F d R_write (fX11_write_27 F d R_write n) this x1 x2 x4 h15))))))))))
def fX11_write_16 (F d : Nat) (R_write : Nat → Nat → Nat → Int32 → Hp → Option (Hp)) (this : Nat) (x1 : Nat) (x2 : Nat) (s0 : Nat) (s1 : Int32) (h : Hp) : Option (Hp) :=
  ca (fX11_content F d (v_size F d) this x1 h) fun v2 h1 => (
  cv (fX5_header F d s0 s1 v2 h1) fun h3 => (
  fX11_write_27 F d R_write F this x1 x2 0 h3))
def fX11_write (F d : Nat) (R_write : Nat → Nat → Nat → Int32 → Hp → Option (Hp)) (this : Nat) (p0 : Nat) (p1 : Nat) (p2 : Int32) (h : Hp) : Option (Hp) :=
  if p2 = (-1) then
  (fX11_write_16 F d R_write this p0 p1 p1 48 h)
  else
  (fX11_write_16 F d R_write this p0 p1 p1 (160 + p2) h)
set_option maxHeartbeats 4000000 in
theorem tX11_write_64 (l : Launch) (w : Wd) (hfl : l.stackTraces = false) (F d : Nat) (R_write : Nat → Nat → Nat → Int32 → Hp → Option (Hp)) (hR_write : ∀ {b : Nat} {p0 : Nat} {p1 : Nat} {p2 : Int32} (k_b : [6, 7, 8, 9, 11, 12].contains (nd_Kd b) = true) (k_p0 : nd_Kd p0 = 13) (k_p1 : nd_Kd p1 = 4) {h : Hp} {r : Hp}, R_write b p0 p1 p2 h = some r → nc_write l w b (1 + 8 * d) (30 + 400 * d) [vr (some b), vr (some p0), vr (some p1), vi p2] h (.inl none, r)) (r : Hp) (k_27 : Nat → Nat → Nat → Int32 → Hp → Option (Hp)) (hk_27 : ∀ (this : Nat) (x1 : Nat) (x2 : Nat) (x4 : Int32) (k_this : nd_Kd this = 7) (k_x1 : nd_Kd x1 = 13) (k_x2 : nd_Kd x2 = 4) (h : Hp), k_27 this x1 x2 x4 h = some r → nd_V l w yX11_write cX11_write 5 none (3 + 8 * d) (74 + 400 * d) (.inl none, r) h 27 [(0, vr (some this)), (1, vr (some x1)), (2, vr (some x2)), (4, vi x4)] []) (this : Nat) (x1 : Nat) (x2 : Nat) (x4 : Int32) (k_this : nd_Kd this = 7) (k_x1 : nd_Kd x1 = 13) (k_x2 : nd_Kd x2 = 4) (h : Hp) (hf : fX11_write_64 F d R_write k_27 this x1 x2 x4 h = some r) : nd_V l w yX11_write cX11_write 5 none (3 + 8 * d) (74 + 400 * d) (.inl none, r) h 64 [(0, vr (some this)), (1, vr (some x1)), (2, vr (some x2)), (4, vi x4)] [] := by
  unfold fX11_write_64 at hf
  replace hf := bnE hf
  obtain ⟨v1, e_v1, hf⟩ := hf
  refine nd_iinc (v := v1) (j := 3) [(4, vi v1), (0, vr (some this)), (1, vr (some x1)), (2, vr (some x2))] dX11_write_64 rfl (by rw [e_v1]; rfl) (Nat.le_of_ble_eq_true rfl) rfl ?_
  refine nd_goto (tgt := 27) dX11_write_67 (by decide) ?_
  exact nd_loc [1, 2, 3, 0] rfl (hk_27 _ _ _ _ k_this k_x1 k_x2 _ hf)
set_option maxHeartbeats 4000000 in
theorem tX11_write_27 (l : Launch) (w : Wd) (hfl : l.stackTraces = false) (F d : Nat) (R_write : Nat → Nat → Nat → Int32 → Hp → Option (Hp)) (hR_write : ∀ {b : Nat} {p0 : Nat} {p1 : Nat} {p2 : Int32} (k_b : [6, 7, 8, 9, 11, 12].contains (nd_Kd b) = true) (k_p0 : nd_Kd p0 = 13) (k_p1 : nd_Kd p1 = 4) {h : Hp} {r : Hp}, R_write b p0 p1 p2 h = some r → nc_write l w b (1 + 8 * d) (30 + 400 * d) [vr (some b), vr (some p0), vr (some p1), vi p2] h (.inl none, r)) (r : Hp) : ∀ (n : Nat) (this : Nat) (x1 : Nat) (x2 : Nat) (x4 : Int32) (k_this : nd_Kd this = 7) (k_x1 : nd_Kd x1 = 13) (k_x2 : nd_Kd x2 = 4) (h : Hp), fX11_write_27 F d R_write n this x1 x2 x4 h = some r → nd_V l w yX11_write cX11_write 5 none (3 + 8 * d) (74 + 400 * d) (.inl none, r) h 27 [(0, vr (some this)), (1, vr (some x1)), (2, vr (some x2)), (4, vi x4)] [] := by
  intro n
  induction n with
  | zero => intro _ _ _ _ _ _ _ _ hf; cases hf
  | succ n ih =>
    intro this x1 x2 x4 k_this k_x1 k_x2 h hf
    unfold fX11_write_27 at hf
    refine nd_iload (j := 3) dX11_write_27 rfl ?_
    refine nd_aload_n (j := 0) dX11_write_29 rfl rfl ?_
    refine nd_getI (k := 1) dX11_write_30 k_this rfl (Nat.le_of_ble_eq_true rfl) (nd_flS q487 q488) rfl ?_
    refine nd_icmp_ge (tgt := 70) dX11_write_33 (by decide) (fun c1 => ?_) (fun c1 => ?_)
    · replace hf := ifp c1 hf
      cases hf
      exact nd_vret dX11_write_70
    · replace hf := ifn c1 hf
      refine nd_aload_n (j := 0) dX11_write_36 rfl rfl ?_
      refine nd_aload_n (j := 1) dX11_write_37 rfl rfl ?_
      refine nd_iload (j := 3) dX11_write_38 rfl ?_
      replace hf := caE hf
      obtain ⟨v3, h2, e_h2, hf⟩ := hf
      refine nd_Vi [] (tX11_isWritten l w hfl F d k_this k_x1 e_h2) rfl dX11_write_40 mw_X11_isWritten (Or.inl q1165) k_this rfl q1167 qs24 (by omega) (by omega) (Nat.le_of_ble_eq_true rfl) ?_
      refine nd_if_eq (tgt := 64) dX11_write_43 (by decide) (fun c4 => ?_) (fun c4 => ?_)
      · replace hf := ifp c4 hf
        exact nd_loc [0, 1, 2, 3] rfl (tX11_write_64 l w hfl F d R_write hR_write r (fX11_write_27 F d R_write n) ih _ _ _ _ k_this k_x1 k_x2 _ hf)
      · replace hf := ifn c4 hf
        refine nd_aload_n (j := 0) dX11_write_46 rfl rfl ?_
        refine nd_getP (k := 0) dX11_write_47 k_this rfl (Nat.le_of_ble_eq_true rfl) (nd_flS q482 q483) rfl (fun ok5 => ?_)
        replace hf := nnE hf
        obtain ⟨a6, e_a6, hf⟩ := hf
        refine nd_topr e_a6.symm ?_
        have k_a6 : nd_Kd a6 = 24 := nd_c1 (ok5 a6 e_a6)
        refine nd_iload (j := 3) dX11_write_50 rfl ?_
        replace hf := ckE hf
        obtain ⟨c7, hf⟩ := hf
        refine nd_aald (t := 4) (C := "NotationDesk$Type") dX11_write_52 k_a6 (by decide) (fun _ => rfl) c7 (fun ok8 => ?_)
        replace hf := bnE hf
        obtain ⟨o9, e_o9, hf⟩ := hf
        refine nd_topr e_o9 ?_
        have ok_o9 : ∀ b, o9 = some b → [6, 7, 8, 9, 11, 12].contains (nd_Kd b) = true := fun b q => ok8 b (e_o9 ▸ q)
        refine nd_aload_n (j := 1) dX11_write_53 rfl rfl ?_
        refine nd_iload (j := 3) dX11_write_54 rfl ?_
        replace hf := caE hf
        obtain ⟨v11, h10, e_h10, hf⟩ := hf
        refine nd_Vr [vr o9] (tX17_component l w hfl F d k_x1 e_h10) rfl dX11_write_56 mw_X17_component (Or.inl q1169) k_x1 rfl q1170 q1171 (by omega) (by omega) (Nat.le_of_ble_eq_true rfl) (fun ok12 => ?_)
        have ok_v11 : ∀ b, v11 = some b → [13].contains (nd_Kd b) = true := fun b q => okT13 (ok12 b q)
        refine nd_aload_n (j := 2) dX11_write_59 rfl rfl ?_
        refine nd_iconst (v := (-1)) dX11_write_60 (by decide) ?_
        replace hf := nnE hf
        obtain ⟨a13, e_a13, hf⟩ := hf
        have k_a13 : [6, 7, 8, 9, 11, 12].contains (nd_Kd a13) = true := ok_o9 a13 e_a13
        subst e_a13
        replace hf := nnE hf
        obtain ⟨a14, e_a14, hf⟩ := hf
        have k_a14 : nd_Kd a14 = 13 := nd_c1 (ok_v11 a14 e_a14)
        subst e_a14
        replace hf := cvE hf
        obtain ⟨h15, e_h15, hf⟩ := hf
        refine nd_v_write [] (hR_write k_a13 k_a14 k_x2 e_h15) rfl dX11_write_61 q1206 k_a13 (by omega) (by omega) (Nat.le_of_ble_eq_true rfl) ?_
        exact nd_loc [0, 1, 2, 3] rfl (tX11_write_64 l w hfl F d R_write hR_write r (fX11_write_27 F d R_write n) ih _ _ _ _ k_this k_x1 k_x2 _ hf)
set_option maxHeartbeats 4000000 in
theorem tX11_write_16 (l : Launch) (w : Wd) (hfl : l.stackTraces = false) (F d : Nat) (R_write : Nat → Nat → Nat → Int32 → Hp → Option (Hp)) (hR_write : ∀ {b : Nat} {p0 : Nat} {p1 : Nat} {p2 : Int32} (k_b : [6, 7, 8, 9, 11, 12].contains (nd_Kd b) = true) (k_p0 : nd_Kd p0 = 13) (k_p1 : nd_Kd p1 = 4) {h : Hp} {r : Hp}, R_write b p0 p1 p2 h = some r → nc_write l w b (1 + 8 * d) (30 + 400 * d) [vr (some b), vr (some p0), vr (some p1), vi p2] h (.inl none, r)) (r : Hp) (this : Nat) (x1 : Nat) (x2 : Nat) (s0 : Nat) (s1 : Int32) (k_this : nd_Kd this = 7) (k_x1 : nd_Kd x1 = 13) (k_x2 : nd_Kd x2 = 4) (k_s0 : nd_Kd s0 = 4) (h : Hp) (hf : fX11_write_16 F d R_write this x1 x2 s0 s1 h = some r) : nd_V l w yX11_write cX11_write 5 none (3 + 8 * d) (74 + 400 * d) (.inl none, r) h 16 [(0, vr (some this)), (1, vr (some x1)), (2, vr (some x2))] [vi s1, vr (some s0)] := by
  unfold fX11_write_16 at hf
  refine nd_aload_n (j := 0) dX11_write_16 rfl rfl ?_
  refine nd_aload_n (j := 1) dX11_write_17 rfl rfl ?_
  replace hf := caE hf
  obtain ⟨v2, h1, e_h1, hf⟩ := hf
  refine nd_Vi [vi s1, vr (some s0)] (tX11_content l w hfl F d (v_size F d) (tv_size l w hfl F d) k_this k_x1 e_h1) rfl dX11_write_18 mw_X11_content (Or.inl q1161) k_this rfl q1163 qs23 (by omega) (by omega) (Nat.le_of_ble_eq_true rfl) ?_
  replace hf := cvE hf
  obtain ⟨h3, e_h3, hf⟩ := hf
  refine nd_Vv [] (tX5_header l w hfl F d k_s0 e_h3) rfl dX11_write_21 mw_X5_header (Or.inl q1205) k_s0 rfl q1132 q1133 (by omega) (by omega) (Nat.le_of_ble_eq_true rfl) ?_
  refine nd_iconst (v := 0) dX11_write_24 (by decide) ?_
  refine nd_istore [(4, vi 0), (0, vr (some this)), (1, vr (some x1)), (2, vr (some x2))] dX11_write_25 (Nat.le_of_ble_eq_true rfl) rfl ?_
  exact nd_loc [1, 2, 3, 0] rfl (tX11_write_27 l w hfl F d R_write hR_write r F _ _ _ _ k_this k_x1 k_x2 _ hf)
set_option maxHeartbeats 4000000 in
theorem tX11_write (l : Launch) (w : Wd) (hfl : l.stackTraces = false) (F d : Nat) (R_write : Nat → Nat → Nat → Int32 → Hp → Option (Hp)) (hR_write : ∀ {b : Nat} {p0 : Nat} {p1 : Nat} {p2 : Int32} (k_b : [6, 7, 8, 9, 11, 12].contains (nd_Kd b) = true) (k_p0 : nd_Kd p0 = 13) (k_p1 : nd_Kd p1 = 4) {h : Hp} {r : Hp}, R_write b p0 p1 p2 h = some r → nc_write l w b (1 + 8 * d) (30 + 400 * d) [vr (some b), vr (some p0), vr (some p1), vi p2] h (.inl none, r)) {this : Nat} {p0 : Nat} {p1 : Nat} {p2 : Int32} (k_this : nd_Kd this = 7) (k_p0 : nd_Kd p0 = 13) (k_p1 : nd_Kd p1 = 4) {h : Hp} {r : Hp} (hf : fX11_write F d R_write this p0 p1 p2 h = some r) : nd_C l w yX11_write cX11_write 5 none (3 + 8 * d) (74 + 400 * d) [vr (some this), vr (some p0), vr (some p1), vi p2] h (.inl none, r) := by
  refine nd_start (as := [vr (some this), vr (some p0), vr (some p1), vi p2]) hfl (by decide) (Nat.le_of_ble_eq_true rfl) ?_
  unfold fX11_write at hf
  refine nd_eqL (L' := [(0, vr (some this)), (1, vr (some p0)), (2, vr (some p1)), (3, vi p2)]) rfl ?_
  refine nd_aload_n (j := 2) dX11_write_0 rfl rfl ?_
  refine nd_iload_n (j := 3) dX11_write_1 rfl rfl ?_
  refine nd_iconst (v := (-1)) dX11_write_2 (by decide) ?_
  refine nd_icmp_ne (tgt := 11) dX11_write_3 (by decide) (fun c1 => ?_) (fun c1 => ?_)
  · replace hf := ifn c1 hf
    refine nd_sipush (v := 160) dX11_write_11 (by decide) ?_
    refine nd_iload_n (j := 3) dX11_write_14 rfl rfl ?_
    refine nd_iadd dX11_write_15 ?_
    exact nd_loc [0, 1, 2] rfl (tX11_write_16 l w hfl F d R_write hR_write r _ _ _ _ _ k_this k_p0 k_p1 k_p1 _ hf)
  · replace hf := ifp c1 hf
    refine nd_bipush (v := 48) dX11_write_6 (by decide) ?_
    refine nd_goto (tgt := 16) dX11_write_8 (by decide) ?_
    exact nd_loc [0, 1, 2] rfl (tX11_write_16 l w hfl F d R_write hR_write r _ _ _ _ _ k_this k_p0 k_p1 k_p1 _ hf)
def fX15_add (F d : Nat) (p0 : Nat) (p1 : Option Nat) (h : Hp) : Option (Int32 × Hp) :=
  oc p1
  (some (0, h))
  (fun a1 =>
  cv (fX17_add F d p0 a1 (gI h 1701 p0) h) fun h2 => (
  bn (sI h2 1701 p0 ((gI h2 1701 p0) + 1)) fun h4 => (
  some (1, h4))))
set_option maxHeartbeats 4000000 in
theorem tX15_add (l : Launch) (w : Wd) (hfl : l.stackTraces = false) (F d : Nat) {p0 : Nat} {p1 : Option Nat} (k_p0 : nd_Kd p0 = 13) (ok_p1 : ∀ b, p1 = some b → [13].contains (nd_Kd b) = true) {h : Hp} {r : Int32 × Hp} (hf : fX15_add F d p0 p1 h = some r) : nd_C l w yX15_add cX15_add 2 (some .boolean) 1 22 [vr (some p0), vr p1] h (.inl (some (vi r.1)), r.2) := by
  refine nd_start (as := [vr (some p0), vr p1]) hfl (by decide) (Nat.le_of_ble_eq_true rfl) ?_
  unfold fX15_add at hf
  refine nd_eqL (L' := [(0, vr (some p0)), (1, vr p1)]) rfl ?_
  refine nd_aload_n (j := 1) dX15_add_0 rfl rfl ?_
  refine nd_ifnonnull (tgt := 6) dX15_add_1 (by decide) (fun e_a1 => ?_) (fun a1 e_a1 => ?_)
  · replace hf := ocN e_a1 hf
    subst e_a1
    refine nd_iconst (v := 0) dX15_add_4 (by decide) ?_
    cases hf
    exact nd_zret (v := 0) (by decide) dX15_add_5
  · replace hf := ocS e_a1 hf
    have k_a1 : nd_Kd a1 = 13 := nd_c1 (ok_p1 a1 e_a1)
    subst e_a1
    refine nd_aload_n (j := 0) dX15_add_6 rfl rfl ?_
    refine nd_aload_n (j := 1) dX15_add_7 rfl rfl ?_
    refine nd_aload_n (j := 0) dX15_add_8 rfl rfl ?_
    refine nd_getI (k := 1) dX15_add_9 k_p0 rfl (Nat.le_of_ble_eq_true rfl) (nd_flN q909) rfl ?_
    replace hf := cvE hf
    obtain ⟨h2, e_h2, hf⟩ := hf
    refine nd_Vv [] (tX17_add l w hfl F d k_p0 k_a1 e_h2) rfl dX15_add_12 mw_X17_add (Or.inl q1009) k_p0 rfl q1010 q1011 (by omega) (by omega) (Nat.le_of_ble_eq_true rfl) ?_
    refine nd_aload_n (j := 0) dX15_add_15 rfl rfl ?_
    refine nd_dup dX15_add_16 rfl ?_
    refine nd_getI (k := 1) dX15_add_17 k_p0 rfl (Nat.le_of_ble_eq_true rfl) (nd_flN q909) rfl ?_
    refine nd_iconst (v := 1) dX15_add_20 (by decide) ?_
    refine nd_iadd dX15_add_21 ?_
    refine nd_putN (k := 1) dX15_add_22 k_p0 rfl (Nat.le_of_ble_eq_true rfl) (nd_flN q909) rfl rfl rfl ?_
    replace hf := bnE hf
    obtain ⟨h4, e_h4, hf⟩ := hf
    refine nd_hp e_h4 ?_
    refine nd_iconst (v := 1) dX15_add_25 (by decide) ?_
    cases hf
    exact nd_zret (v := 1) (by decide) dX15_add_26
def fX15_pack_17 (F d : Nat) (R_pack : Nat → Nat → Nat → Hp → Option (Hp)) : Nat → Nat → Nat → Option Nat → Hp → Option (Hp)
  | 0, _, _, _, _ => none
  | n + 1, this, x2, x3, h =>
    oc x3
    (some h)
    (fun a1 =>
    bn (gP h 1501 this) fun o3 => (
    nn o3 fun a4 => (
    cv (R_pack a4 a1 x2 h) fun h5 => (
    bn (gP h5 1708 a1) fun o8 => (
    fX15_pack_17 F d R_pack n this x2 o8 h5)))))
def fX15_pack (F d : Nat) (R_pack : Nat → Nat → Nat → Hp → Option (Hp)) (this : Nat) (p0 : Nat) (p1 : Nat) (h : Hp) : Option (Hp) :=
  nn (gP h 1500 this) fun a2 => (
  cv (fX14_pack F d a2 (gI h 1701 p0) p1 h) fun h3 => (
  bn (gP h3 1706 p0) fun o6 => (
  fX15_pack_17 F d R_pack F this p1 o6 h3)))
set_option maxHeartbeats 4000000 in
theorem tX15_pack_17 (l : Launch) (w : Wd) (hfl : l.stackTraces = false) (F d : Nat) (R_pack : Nat → Nat → Nat → Hp → Option (Hp)) (hR_pack : ∀ {b : Nat} {p0 : Nat} {p1 : Nat} (k_b : [6, 7, 8, 9, 11, 12].contains (nd_Kd b) = true) (k_p0 : nd_Kd p0 = 13) (k_p1 : nd_Kd p1 = 4) {h : Hp} {r : Hp}, R_pack b p0 p1 h = some r → nc_pack l w b (1 + 8 * d) (30 + 400 * d) [vr (some b), vr (some p0), vr (some p1)] h (.inl none, r)) (r : Hp) : ∀ (n : Nat) (this : Nat) (x2 : Nat) (x3 : Option Nat) (k_this : nd_Kd this = 11) (k_x2 : nd_Kd x2 = 4) (ok_x3 : ∀ b, x3 = some b → [13].contains (nd_Kd b) = true) (h : Hp), fX15_pack_17 F d R_pack n this x2 x3 h = some r → nd_V l w yX15_pack cX15_pack 4 none (4 + 8 * d) (86 + 400 * d) (.inl none, r) h 17 [(0, vr (some this)), (2, vr (some x2)), (3, vr x3)] [] := by
  intro n
  induction n with
  | zero => intro _ _ _ _ _ _ _ hf; cases hf
  | succ n ih =>
    intro this x2 x3 k_this k_x2 ok_x3 h hf
    unfold fX15_pack_17 at hf
    refine nd_aload_n (j := 2) dX15_pack_17 rfl rfl ?_
    refine nd_ifnull (tgt := 38) dX15_pack_18 (by decide) (fun e_a1 => ?_) (fun a1 e_a1 => ?_)
    · replace hf := ocN e_a1 hf
      subst e_a1
      cases hf
      exact nd_vret dX15_pack_38
    · replace hf := ocS e_a1 hf
      have k_a1 : nd_Kd a1 = 13 := nd_c1 (ok_x3 a1 e_a1)
      subst e_a1
      refine nd_aload_n (j := 0) dX15_pack_21 rfl rfl ?_
      refine nd_getP (k := 1) dX15_pack_22 k_this rfl (Nat.le_of_ble_eq_true rfl) (nd_flO q634) rfl (fun ok2 => ?_)
      replace hf := bnE hf
      obtain ⟨o3, e_o3, hf⟩ := hf
      refine nd_topr e_o3 ?_
      have ok_o3 : ∀ b, o3 = some b → [6, 7, 8, 9, 11, 12].contains (nd_Kd b) = true := fun b q => ok2 b (e_o3 ▸ q)
      refine nd_aload_n (j := 2) dX15_pack_25 rfl rfl ?_
      refine nd_aload_n (j := 1) dX15_pack_26 rfl rfl ?_
      replace hf := nnE hf
      obtain ⟨a4, e_a4, hf⟩ := hf
      have k_a4 : [6, 7, 8, 9, 11, 12].contains (nd_Kd a4) = true := ok_o3 a4 e_a4
      subst e_a4
      replace hf := cvE hf
      obtain ⟨h5, e_h5, hf⟩ := hf
      refine nd_v_pack [] (hR_pack k_a4 k_a1 k_x2 e_h5) rfl dX15_pack_27 q1259 k_a4 (by omega) (by omega) (Nat.le_of_ble_eq_true rfl) ?_
      refine nd_aload_n (j := 2) dX15_pack_30 rfl rfl ?_
      refine nd_getP (k := 8) dX15_pack_31 k_a1 rfl (Nat.le_of_ble_eq_true rfl) (nd_flN q931) rfl (fun ok7 => ?_)
      replace hf := bnE hf
      obtain ⟨o8, e_o8, hf⟩ := hf
      refine nd_topr e_o8 ?_
      have ok_o8 : ∀ b, o8 = some b → [13].contains (nd_Kd b) = true := fun b q => ok7 b (e_o8 ▸ q)
      refine nd_astore_n [(3, vr o8), (0, vr (some this)), (2, vr (some x2))] dX15_pack_34 rfl (Nat.le_of_ble_eq_true rfl) rfl ?_
      refine nd_goto (tgt := 17) dX15_pack_35 (by decide) ?_
      exact nd_loc [1, 2, 0] rfl (ih _ _ _ k_this k_x2 ok_o8 _ hf)
set_option maxHeartbeats 4000000 in
theorem tX15_pack (l : Launch) (w : Wd) (hfl : l.stackTraces = false) (F d : Nat) (R_pack : Nat → Nat → Nat → Hp → Option (Hp)) (hR_pack : ∀ {b : Nat} {p0 : Nat} {p1 : Nat} (k_b : [6, 7, 8, 9, 11, 12].contains (nd_Kd b) = true) (k_p0 : nd_Kd p0 = 13) (k_p1 : nd_Kd p1 = 4) {h : Hp} {r : Hp}, R_pack b p0 p1 h = some r → nc_pack l w b (1 + 8 * d) (30 + 400 * d) [vr (some b), vr (some p0), vr (some p1)] h (.inl none, r)) {this : Nat} {p0 : Nat} {p1 : Nat} (k_this : nd_Kd this = 11) (k_p0 : nd_Kd p0 = 13) (k_p1 : nd_Kd p1 = 4) {h : Hp} {r : Hp} (hf : fX15_pack F d R_pack this p0 p1 h = some r) : nd_C l w yX15_pack cX15_pack 4 none (4 + 8 * d) (86 + 400 * d) [vr (some this), vr (some p0), vr (some p1)] h (.inl none, r) := by
  refine nd_start (as := [vr (some this), vr (some p0), vr (some p1)]) hfl (by decide) (Nat.le_of_ble_eq_true rfl) ?_
  unfold fX15_pack at hf
  refine nd_eqL (L' := [(0, vr (some this)), (1, vr (some p0)), (2, vr (some p1))]) rfl ?_
  refine nd_aload_n (j := 0) dX15_pack_0 rfl rfl ?_
  refine nd_getP (k := 0) dX15_pack_1 k_this rfl (Nat.le_of_ble_eq_true rfl) (nd_flO q632) rfl (fun ok1 => ?_)
  replace hf := nnE hf
  obtain ⟨a2, e_a2, hf⟩ := hf
  refine nd_topr e_a2.symm ?_
  have k_a2 : nd_Kd a2 = 10 := nd_c1 (ok1 a2 e_a2)
  refine nd_aload_n (j := 1) dX15_pack_4 rfl rfl ?_
  refine nd_getI (k := 1) dX15_pack_5 k_p0 rfl (Nat.le_of_ble_eq_true rfl) (nd_flN q909) rfl ?_
  refine nd_aload_n (j := 2) dX15_pack_8 rfl rfl ?_
  replace hf := cvE hf
  obtain ⟨h3, e_h3, hf⟩ := hf
  refine nd_Vv [] (tX14_pack l w hfl F d k_a2 k_p1 e_h3) rfl dX15_pack_9 mw_X14_pack (Or.inl q1258) k_a2 rfl q1246 q1247 (by omega) (by omega) (Nat.le_of_ble_eq_true rfl) ?_
  refine nd_aload_n (j := 1) dX15_pack_12 rfl rfl ?_
  refine nd_getP (k := 6) dX15_pack_13 k_p0 rfl (Nat.le_of_ble_eq_true rfl) (nd_flN q925) rfl (fun ok5 => ?_)
  replace hf := bnE hf
  obtain ⟨o6, e_o6, hf⟩ := hf
  refine nd_topr e_o6 ?_
  have ok_o6 : ∀ b, o6 = some b → [13].contains (nd_Kd b) = true := fun b q => ok5 b (e_o6 ▸ q)
  refine nd_astore_n [(3, vr o6), (0, vr (some this)), (1, vr (some p0)), (2, vr (some p1))] dX15_pack_16 rfl (Nat.le_of_ble_eq_true rfl) rfl ?_
  exact nd_loc [1, 3, 0] rfl (tX15_pack_17 l w hfl F d R_pack hR_pack r F _ _ _ k_this k_p1 ok_o6 _ hf)
def fX4_isAtEnd (F d : Nat) (this : Nat) (h : Hp) : Option (Int32 × Hp) :=
  nn (gP h 405 this) fun a2 => (
  ck (inb ((gI h 407 this) - 1) (nd_Ln a2)) (
  if (gA h a2 (Int32.toNatClampNeg ((gI h 407 this) - 1))) = (-2) then
  (if (gI h 402 this) ≤ (gI h 401 this) then
  (some (0, h))
  else
  (nn (gP h 400 this) fun a8 => (
  ck (inb (gI h 401 this) (nd_Ln a8)) (
  if (gA h a8 (Int32.toNatClampNeg (gI h 401 this))) = 0 then
  (some (1, h))
  else
  (some (0, h))))))
  else
  (if (gI h 401 this) = (gI h 402 this) then
  (some (1, h))
  else
  (some (0, h)))))
set_option maxHeartbeats 4000000 in
theorem tX4_isAtEnd (l : Launch) (w : Wd) (hfl : l.stackTraces = false) (F d : Nat) {this : Nat} (k_this : nd_Kd this = 3) {h : Hp} {r : Int32 × Hp} (hf : fX4_isAtEnd F d this h = some r) : nd_C l w yX4_isAtEnd cX4_isAtEnd 1 (some .boolean) 0 0 [vr (some this)] h (.inl (some (vi r.1)), r.2) := by
  refine nd_start (as := [vr (some this)]) hfl (by decide) (Nat.le_of_ble_eq_true rfl) ?_
  unfold fX4_isAtEnd at hf
  refine nd_eqL (L' := [(0, vr (some this))]) rfl ?_
  refine nd_aload_n (j := 0) dX4_isAtEnd_0 rfl rfl ?_
  refine nd_getP (k := 5) dX4_isAtEnd_1 k_this rfl (Nat.le_of_ble_eq_true rfl) (nd_flO q244) rfl (fun ok1 => ?_)
  replace hf := nnE hf
  obtain ⟨a2, e_a2, hf⟩ := hf
  refine nd_topr e_a2.symm ?_
  have k_a2 : nd_Kd a2 = 20 := nd_c1 (ok1 a2 e_a2)
  refine nd_aload_n (j := 0) dX4_isAtEnd_4 rfl rfl ?_
  refine nd_getI (k := 7) dX4_isAtEnd_5 k_this rfl (Nat.le_of_ble_eq_true rfl) (nd_flO q246) rfl ?_
  refine nd_iconst (v := 1) dX4_isAtEnd_8 (by decide) ?_
  refine nd_isub dX4_isAtEnd_9 ?_
  replace hf := ckE hf
  obtain ⟨c3, hf⟩ := hf
  refine nd_iald dX4_isAtEnd_10 k_a2 c3 ?_
  refine nd_bipush (v := (-2)) dX4_isAtEnd_11 (by decide) ?_
  refine nd_icmp_ne (tgt := 47) dX4_isAtEnd_13 (by decide) (fun c4 => ?_) (fun c4 => ?_)
  · replace hf := ifn c4 hf
    refine nd_aload_n (j := 0) dX4_isAtEnd_47 rfl rfl ?_
    refine nd_getI (k := 1) dX4_isAtEnd_48 k_this rfl (Nat.le_of_ble_eq_true rfl) (nd_flO q232) rfl ?_
    refine nd_aload_n (j := 0) dX4_isAtEnd_51 rfl rfl ?_
    refine nd_getI (k := 2) dX4_isAtEnd_52 k_this rfl (Nat.le_of_ble_eq_true rfl) (nd_flO q234) rfl ?_
    refine nd_icmp_ne (tgt := 62) dX4_isAtEnd_55 (by decide) (fun c5 => ?_) (fun c5 => ?_)
    · replace hf := ifn c5 hf
      refine nd_iconst (v := 0) dX4_isAtEnd_62 (by decide) ?_
      cases hf
      exact nd_zret (v := 0) (by decide) dX4_isAtEnd_63
    · replace hf := ifp c5 hf
      refine nd_iconst (v := 1) dX4_isAtEnd_58 (by decide) ?_
      refine nd_goto (tgt := 63) dX4_isAtEnd_59 (by decide) ?_
      cases hf
      exact nd_zret (v := 1) (by decide) dX4_isAtEnd_63
  · replace hf := ifp c4 hf
    refine nd_aload_n (j := 0) dX4_isAtEnd_16 rfl rfl ?_
    refine nd_getI (k := 1) dX4_isAtEnd_17 k_this rfl (Nat.le_of_ble_eq_true rfl) (nd_flO q232) rfl ?_
    refine nd_aload_n (j := 0) dX4_isAtEnd_20 rfl rfl ?_
    refine nd_getI (k := 2) dX4_isAtEnd_21 k_this rfl (Nat.le_of_ble_eq_true rfl) (nd_flO q234) rfl ?_
    refine nd_icmp_ge (tgt := 43) dX4_isAtEnd_24 (by decide) (fun c6 => ?_) (fun c6 => ?_)
    · replace hf := ifp c6 hf
      refine nd_iconst (v := 0) dX4_isAtEnd_43 (by decide) ?_
      refine nd_goto (tgt := 63) dX4_isAtEnd_44 (by decide) ?_
      cases hf
      exact nd_zret (v := 0) (by decide) dX4_isAtEnd_63
    · replace hf := ifn c6 hf
      refine nd_aload_n (j := 0) dX4_isAtEnd_27 rfl rfl ?_
      refine nd_getP (k := 0) dX4_isAtEnd_28 k_this rfl (Nat.le_of_ble_eq_true rfl) (nd_flO q231) rfl (fun ok7 => ?_)
      replace hf := nnE hf
      obtain ⟨a8, e_a8, hf⟩ := hf
      refine nd_topr e_a8.symm ?_
      have k_a8 : nd_Kd a8 = 20 := nd_c1 (ok7 a8 e_a8)
      refine nd_aload_n (j := 0) dX4_isAtEnd_31 rfl rfl ?_
      refine nd_getI (k := 1) dX4_isAtEnd_32 k_this rfl (Nat.le_of_ble_eq_true rfl) (nd_flO q232) rfl ?_
      replace hf := ckE hf
      obtain ⟨c9, hf⟩ := hf
      refine nd_iald dX4_isAtEnd_35 k_a8 c9 ?_
      refine nd_if_ne (tgt := 43) dX4_isAtEnd_36 (by decide) (fun c10 => ?_) (fun c10 => ?_)
      · replace hf := ifn c10 hf
        refine nd_iconst (v := 0) dX4_isAtEnd_43 (by decide) ?_
        refine nd_goto (tgt := 63) dX4_isAtEnd_44 (by decide) ?_
        cases hf
        exact nd_zret (v := 0) (by decide) dX4_isAtEnd_63
      · replace hf := ifp c10 hf
        refine nd_iconst (v := 1) dX4_isAtEnd_39 (by decide) ?_
        refine nd_goto (tgt := 63) dX4_isAtEnd_40 (by decide) ?_
        cases hf
        exact nd_zret (v := 1) (by decide) dX4_isAtEnd_63
def fX15_read_43 (F d : Nat) (R_read : Nat → Nat → Int32 → Hp → Option (Option Nat × Hp)) : Nat → Nat → Nat → Nat → Hp → Option (Option Nat × Hp)
  | 0, _, _, _, _ => none
  | n + 1, this, x1, x3, h =>
    ca (fX4_isAtEnd F d x1 h) fun v2 h1 => (
    if v2 = 0 then
    (bn (gP h1 1501 this) fun o13 => (
    nn o13 fun a14 => (
    ca (R_read a14 x1 (-1) h1) fun v16 h15 => (
    ca (fX15_add F d x3 v16 h15) fun v19 h18 => (
    if v19 = 0 then
    (some (none, h18))
    else
    (fX15_read_43 F d R_read n this x1 x3 h18))))))
    else
    (ca (fX4_leave F d x1 h1) fun v5 h4 => (
    if v5 = 0 then
    (some (none, h4))
    else
    (nn (gP h4 1500 this) fun a8 => (
    ca (fX14_holds F d a8 (gI h4 1701 x3) h4) fun v10 h9 => (
    if v10 = 0 then
    (some (none, h9))
    else
    (some ((some x3), h9))))))))
def fX15_read_36 (F d : Nat) (R_read : Nat → Nat → Int32 → Hp → Option (Option Nat × Hp)) (this : Nat) (x1 : Nat) (s0 : Option Nat) (h : Hp) : Option (Option Nat × Hp) :=
  oc s0
  (some (none, h))
  (fun a1 =>
  fX15_read_43 F d R_read F this x1 a1 h)
def fX15_read_16 (F d : Nat) (R_read : Nat → Nat → Int32 → Hp → Option (Option Nat × Hp)) (this : Nat) (x1 : Nat) (s0 : Nat) (s1 : Int32) (h : Hp) : Option (Option Nat × Hp) :=
  ca (fX4_enter F d s0 s1 h) fun v2 h1 => (
  if v2 = 0 then
  (fX15_read_36 F d R_read this x1 none h1)
  else
  (nn (gP h1 404 x1) fun a5 => (
  ca (fX3_make F d a5 7 0 h1) fun v7 h6 => (
  fX15_read_36 F d R_read this x1 v7 h6))))
def fX15_read (F d : Nat) (R_read : Nat → Nat → Int32 → Hp → Option (Option Nat × Hp)) (this : Nat) (p0 : Nat) (p1 : Int32) (h : Hp) : Option (Option Nat × Hp) :=
  if p1 = (-1) then
  (fX15_read_16 F d R_read this p0 p0 48 h)
  else
  (fX15_read_16 F d R_read this p0 p0 (160 + p1) h)
set_option maxHeartbeats 4000000 in
theorem tX15_read_43 (l : Launch) (w : Wd) (hfl : l.stackTraces = false) (F d : Nat) (R_read : Nat → Nat → Int32 → Hp → Option (Option Nat × Hp)) (hR_read : ∀ {b : Nat} {p0 : Nat} {p1 : Int32} (k_b : [6, 7, 8, 9, 11, 12].contains (nd_Kd b) = true) (k_p0 : nd_Kd p0 = 3) {h : Hp} {r : Option Nat × Hp}, R_read b p0 p1 h = some r → nc_read l w b (1 + 8 * d) (30 + 400 * d) [vr (some b), vr (some p0), vi p1] h (.inl (some (vr r.1)), r.2)) (r : Option Nat × Hp) : ∀ (n : Nat) (this : Nat) (x1 : Nat) (x3 : Nat) (k_this : nd_Kd this = 11) (k_x1 : nd_Kd x1 = 3) (k_x3 : nd_Kd x3 = 13) (h : Hp), fX15_read_43 F d R_read n this x1 x3 h = some r → nd_V l w yX15_read cX15_read 4 (some (.object "NotationDesk$Part")) (3 + 8 * d) (83 + 400 * d) (.inl (some (vr r.1)), r.2) h 43 [(0, vr (some this)), (1, vr (some x1)), (3, vr (some x3))] [] := by
  intro n
  induction n with
  | zero => intro _ _ _ _ _ _ _ hf; cases hf
  | succ n ih =>
    intro this x1 x3 k_this k_x1 k_x3 h hf
    unfold fX15_read_43 at hf
    refine nd_aload_n (j := 1) dX15_read_43 rfl rfl ?_
    replace hf := caE hf
    obtain ⟨v2, h1, e_h1, hf⟩ := hf
    refine nd_Vi [] (tX4_isAtEnd l w hfl F d k_x1 e_h1) rfl dX15_read_44 mw_X4_isAtEnd (Or.inl q1085) k_x1 rfl q1086 q1087 (by omega) (by omega) (Nat.le_of_ble_eq_true rfl) ?_
    refine nd_if_ne (tgt := 68) dX15_read_47 (by decide) (fun c3 => ?_) (fun c3 => ?_)
    · replace hf := ifn c3 hf
      refine nd_aload_n (j := 1) dX15_read_68 rfl rfl ?_
      replace hf := caE hf
      obtain ⟨v5, h4, e_h4, hf⟩ := hf
      refine nd_Vi [] (tX4_leave l w hfl F d k_x1 e_h4) rfl dX15_read_69 mw_X4_leave (Or.inl q1098) k_x1 rfl q1095 q1096 (by omega) (by omega) (Nat.le_of_ble_eq_true rfl) ?_
      refine nd_if_eq (tgt := 93) dX15_read_72 (by decide) (fun c6 => ?_) (fun c6 => ?_)
      · replace hf := ifp c6 hf
        refine nd_null dX15_read_93 ?_
        cases hf
        exact nd_aret (fun b e => by cases e) dX15_read_94
      · replace hf := ifn c6 hf
        refine nd_aload_n (j := 0) dX15_read_75 rfl rfl ?_
        refine nd_getP (k := 0) dX15_read_76 k_this rfl (Nat.le_of_ble_eq_true rfl) (nd_flO q632) rfl (fun ok7 => ?_)
        replace hf := nnE hf
        obtain ⟨a8, e_a8, hf⟩ := hf
        refine nd_topr e_a8.symm ?_
        have k_a8 : nd_Kd a8 = 10 := nd_c1 (ok7 a8 e_a8)
        refine nd_aload_n (j := 2) dX15_read_79 rfl rfl ?_
        refine nd_getI (k := 1) dX15_read_80 k_x3 rfl (Nat.le_of_ble_eq_true rfl) (nd_flN q909) rfl ?_
        replace hf := caE hf
        obtain ⟨v10, h9, e_h9, hf⟩ := hf
        refine nd_Vi [] (tX14_holds l w hfl F d k_a8 e_h9) rfl dX15_read_83 mw_X14_holds (Or.inl q1000) k_a8 rfl q976 q977 (by omega) (by omega) (Nat.le_of_ble_eq_true rfl) ?_
        refine nd_if_eq (tgt := 93) dX15_read_86 (by decide) (fun c11 => ?_) (fun c11 => ?_)
        · replace hf := ifp c11 hf
          refine nd_null dX15_read_93 ?_
          cases hf
          exact nd_aret (fun b e => by cases e) dX15_read_94
        · replace hf := ifn c11 hf
          refine nd_aload_n (j := 2) dX15_read_89 rfl rfl ?_
          refine nd_goto (tgt := 94) dX15_read_90 (by decide) ?_
          cases hf
          exact nd_aret (fun b e => by cases e; exact okT13' (by rw [k_x3]; rfl)) dX15_read_94
    · replace hf := ifp c3 hf
      refine nd_aload_n (j := 2) dX15_read_50 rfl rfl ?_
      refine nd_aload_n (j := 0) dX15_read_51 rfl rfl ?_
      refine nd_getP (k := 1) dX15_read_52 k_this rfl (Nat.le_of_ble_eq_true rfl) (nd_flO q634) rfl (fun ok12 => ?_)
      replace hf := bnE hf
      obtain ⟨o13, e_o13, hf⟩ := hf
      refine nd_topr e_o13 ?_
      have ok_o13 : ∀ b, o13 = some b → [6, 7, 8, 9, 11, 12].contains (nd_Kd b) = true := fun b q => ok12 b (e_o13 ▸ q)
      refine nd_aload_n (j := 1) dX15_read_55 rfl rfl ?_
      refine nd_iconst (v := (-1)) dX15_read_56 (by decide) ?_
      replace hf := nnE hf
      obtain ⟨a14, e_a14, hf⟩ := hf
      have k_a14 : [6, 7, 8, 9, 11, 12].contains (nd_Kd a14) = true := ok_o13 a14 e_a14
      subst e_a14
      replace hf := caE hf
      obtain ⟨v16, h15, e_h15, hf⟩ := hf
      refine nd_v_read [vr (some x3)] (hR_read k_a14 k_x1 e_h15) rfl dX15_read_57 q1089 k_a14 (by omega) (by omega) (Nat.le_of_ble_eq_true rfl) (fun ok17 => ?_)
      have ok_v16 : ∀ b, v16 = some b → [13].contains (nd_Kd b) = true := fun b q => okT13 (ok17 b q)
      replace hf := caE hf
      obtain ⟨v19, h18, e_h18, hf⟩ := hf
      refine nd_Si [] (tX15_add l w hfl F d k_x3 ok_v16 e_h18) rfl dX15_read_60 mw_X15_add (Or.inl q1006) q1007 (by omega) (by omega) (Nat.le_of_ble_eq_true rfl) ?_
      refine nd_if_ne (tgt := 43) dX15_read_63 (by decide) (fun c20 => ?_) (fun c20 => ?_)
      · replace hf := ifn c20 hf
        exact nd_loc [0, 1, 2] rfl (ih _ _ _ k_this k_x1 k_x3 _ hf)
      · replace hf := ifp c20 hf
        refine nd_null dX15_read_66 ?_
        cases hf
        exact nd_aret (fun b e => by cases e) dX15_read_67
set_option maxHeartbeats 4000000 in
theorem tX15_read_36 (l : Launch) (w : Wd) (hfl : l.stackTraces = false) (F d : Nat) (R_read : Nat → Nat → Int32 → Hp → Option (Option Nat × Hp)) (hR_read : ∀ {b : Nat} {p0 : Nat} {p1 : Int32} (k_b : [6, 7, 8, 9, 11, 12].contains (nd_Kd b) = true) (k_p0 : nd_Kd p0 = 3) {h : Hp} {r : Option Nat × Hp}, R_read b p0 p1 h = some r → nc_read l w b (1 + 8 * d) (30 + 400 * d) [vr (some b), vr (some p0), vi p1] h (.inl (some (vr r.1)), r.2)) (r : Option Nat × Hp) (this : Nat) (x1 : Nat) (s0 : Option Nat) (k_this : nd_Kd this = 11) (k_x1 : nd_Kd x1 = 3) (ok_s0 : ∀ b, s0 = some b → [13].contains (nd_Kd b) = true) (h : Hp) (hf : fX15_read_36 F d R_read this x1 s0 h = some r) : nd_V l w yX15_read cX15_read 4 (some (.object "NotationDesk$Part")) (3 + 8 * d) (83 + 400 * d) (.inl (some (vr r.1)), r.2) h 36 [(0, vr (some this)), (1, vr (some x1))] [vr s0] := by
  unfold fX15_read_36 at hf
  refine nd_astore_n [(3, vr s0), (0, vr (some this)), (1, vr (some x1))] dX15_read_36 rfl (Nat.le_of_ble_eq_true rfl) rfl ?_
  refine nd_aload_n (j := 0) dX15_read_37 rfl rfl ?_
  refine nd_ifnonnull (tgt := 43) dX15_read_38 (by decide) (fun e_a1 => ?_) (fun a1 e_a1 => ?_)
  · replace hf := ocN e_a1 hf
    subst e_a1
    refine nd_null dX15_read_41 ?_
    cases hf
    exact nd_aret (fun b e => by cases e) dX15_read_42
  · replace hf := ocS e_a1 hf
    have k_a1 : nd_Kd a1 = 13 := nd_c1 (ok_s0 a1 e_a1)
    subst e_a1
    exact nd_loc [1, 2, 0] rfl (tX15_read_43 l w hfl F d R_read hR_read r F _ _ _ k_this k_x1 k_a1 _ hf)
set_option maxHeartbeats 4000000 in
theorem tX15_read_16 (l : Launch) (w : Wd) (hfl : l.stackTraces = false) (F d : Nat) (R_read : Nat → Nat → Int32 → Hp → Option (Option Nat × Hp)) (hR_read : ∀ {b : Nat} {p0 : Nat} {p1 : Int32} (k_b : [6, 7, 8, 9, 11, 12].contains (nd_Kd b) = true) (k_p0 : nd_Kd p0 = 3) {h : Hp} {r : Option Nat × Hp}, R_read b p0 p1 h = some r → nc_read l w b (1 + 8 * d) (30 + 400 * d) [vr (some b), vr (some p0), vi p1] h (.inl (some (vr r.1)), r.2)) (r : Option Nat × Hp) (this : Nat) (x1 : Nat) (s0 : Nat) (s1 : Int32) (k_this : nd_Kd this = 11) (k_x1 : nd_Kd x1 = 3) (k_s0 : nd_Kd s0 = 3) (h : Hp) (hf : fX15_read_16 F d R_read this x1 s0 s1 h = some r) : nd_V l w yX15_read cX15_read 4 (some (.object "NotationDesk$Part")) (3 + 8 * d) (83 + 400 * d) (.inl (some (vr r.1)), r.2) h 16 [(0, vr (some this)), (1, vr (some x1))] [vi s1, vr (some s0)] := by
  unfold fX15_read_16 at hf
  replace hf := caE hf
  obtain ⟨v2, h1, e_h1, hf⟩ := hf
  refine nd_Vi [] (tX4_enter l w hfl F d k_s0 e_h1) rfl dX15_read_16 mw_X4_enter (Or.inl q1084) k_s0 rfl q1076 q1077 (by omega) (by omega) (Nat.le_of_ble_eq_true rfl) ?_
  refine nd_if_eq (tgt := 35) dX15_read_19 (by decide) (fun c3 => ?_) (fun c3 => ?_)
  · replace hf := ifp c3 hf
    refine nd_null dX15_read_35 ?_
    exact nd_loc [0, 1] rfl (tX15_read_36 l w hfl F d R_read hR_read r _ _ _ k_this k_x1 (fun b e => by cases e) _ hf)
  · replace hf := ifn c3 hf
    refine nd_aload_n (j := 1) dX15_read_22 rfl rfl ?_
    refine nd_getP (k := 4) dX15_read_23 k_x1 rfl (Nat.le_of_ble_eq_true rfl) (nd_flN q240) rfl (fun ok4 => ?_)
    replace hf := nnE hf
    obtain ⟨a5, e_a5, hf⟩ := hf
    refine nd_topr e_a5.symm ?_
    have k_a5 : nd_Kd a5 = 2 := nd_c1 (ok4 a5 e_a5)
    refine nd_bipush (v := 7) dX15_read_26 (by decide) ?_
    refine nd_iconst (v := 0) dX15_read_28 (by decide) ?_
    replace hf := caE hf
    obtain ⟨v7, h6, e_h6, hf⟩ := hf
    refine nd_Vr [] (tX3_make l w hfl F d k_a5 e_h6) rfl dX15_read_29 mw_X3_make (Or.inl q1001) k_a5 rfl q897 q898 (by omega) (by omega) (Nat.le_of_ble_eq_true rfl) (fun ok8 => ?_)
    have ok_v7 : ∀ b, v7 = some b → [13].contains (nd_Kd b) = true := fun b q => okT13 (ok8 b q)
    refine nd_goto (tgt := 36) dX15_read_32 (by decide) ?_
    exact nd_loc [0, 1] rfl (tX15_read_36 l w hfl F d R_read hR_read r _ _ _ k_this k_x1 ok_v7 _ hf)
set_option maxHeartbeats 4000000 in
theorem tX15_read (l : Launch) (w : Wd) (hfl : l.stackTraces = false) (F d : Nat) (R_read : Nat → Nat → Int32 → Hp → Option (Option Nat × Hp)) (hR_read : ∀ {b : Nat} {p0 : Nat} {p1 : Int32} (k_b : [6, 7, 8, 9, 11, 12].contains (nd_Kd b) = true) (k_p0 : nd_Kd p0 = 3) {h : Hp} {r : Option Nat × Hp}, R_read b p0 p1 h = some r → nc_read l w b (1 + 8 * d) (30 + 400 * d) [vr (some b), vr (some p0), vi p1] h (.inl (some (vr r.1)), r.2)) {this : Nat} {p0 : Nat} {p1 : Int32} (k_this : nd_Kd this = 11) (k_p0 : nd_Kd p0 = 3) {h : Hp} {r : Option Nat × Hp} (hf : fX15_read F d R_read this p0 p1 h = some r) : nd_C l w yX15_read cX15_read 4 (some (.object "NotationDesk$Part")) (3 + 8 * d) (83 + 400 * d) [vr (some this), vr (some p0), vi p1] h (.inl (some (vr r.1)), r.2) := by
  refine nd_start (as := [vr (some this), vr (some p0), vi p1]) hfl (by decide) (Nat.le_of_ble_eq_true rfl) ?_
  unfold fX15_read at hf
  refine nd_eqL (L' := [(0, vr (some this)), (1, vr (some p0)), (2, vi p1)]) rfl ?_
  refine nd_aload_n (j := 1) dX15_read_0 rfl rfl ?_
  refine nd_iload_n (j := 2) dX15_read_1 rfl rfl ?_
  refine nd_iconst (v := (-1)) dX15_read_2 (by decide) ?_
  refine nd_icmp_ne (tgt := 11) dX15_read_3 (by decide) (fun c1 => ?_) (fun c1 => ?_)
  · replace hf := ifn c1 hf
    refine nd_sipush (v := 160) dX15_read_11 (by decide) ?_
    refine nd_iload_n (j := 2) dX15_read_14 rfl rfl ?_
    refine nd_iadd dX15_read_15 ?_
    exact nd_loc [0, 1] rfl (tX15_read_16 l w hfl F d R_read hR_read r _ _ _ _ k_this k_p0 k_p0 _ hf)
  · replace hf := ifp c1 hf
    refine nd_bipush (v := 48) dX15_read_6 (by decide) ?_
    refine nd_goto (tgt := 16) dX15_read_8 (by decide) ?_
    exact nd_loc [0, 1] rfl (tX15_read_16 l w hfl F d R_read hR_read r _ _ _ _ k_this k_p0 k_p0 _ hf)
def fX15_unpack_45 (F d : Nat) (R_unpack : Nat → Nat → Hp → Option (Option Nat × Hp)) : Nat → Nat → Nat → Int32 → Option Nat → Int32 → Hp → Option (Option Nat × Hp)
  | 0, _, _, _, _, _, _ => none
  | n + 1, this, x1, x2, x3, x4, h =>
    if x2 ≤ x4 then
    (some (x3, h))
    else
    (oc x3
    (some (none, h))
    (fun a2 =>
    bn (gP h 1501 this) fun o4 => (
    nn o4 fun a5 => (
    ca (R_unpack a5 x1 h) fun v7 h6 => (
    ca (fX15_add F d a2 v7 h6) fun v10 h9 => (
    if v10 = 0 then
    (some (none, h9))
    else
    (bn (x4 + 1) fun v12 => (
    fX15_unpack_45 F d R_unpack n this x1 x2 (some a2) v12 h9))))))))
def fX15_unpack_41 (F d : Nat) (R_unpack : Nat → Nat → Hp → Option (Option Nat × Hp)) (this : Nat) (x1 : Nat) (x2 : Int32) (s0 : Option Nat) (h : Hp) : Option (Option Nat × Hp) :=
  fX15_unpack_45 F d R_unpack F this x1 x2 s0 0 h
def fX15_unpack_40 (F d : Nat) (R_unpack : Nat → Nat → Hp → Option (Option Nat × Hp)) (this : Nat) (x1 : Nat) (x2 : Int32) (h : Hp) : Option (Option Nat × Hp) :=
  fX15_unpack_41 F d R_unpack this x1 x2 none h
def fX15_unpack (F d : Nat) (R_unpack : Nat → Nat → Hp → Option (Option Nat × Hp)) (this : Nat) (p0 : Nat) (h : Hp) : Option (Option Nat × Hp) :=
  nn (gP h 1500 this) fun a2 => (
  ca (fX14_unpack F d a2 p0 h) fun v4 h3 => (
  ca (fX4_isThere F d p0 h3) fun v6 h5 => (
  if v6 = 0 then
  (fX15_unpack_40 F d R_unpack this p0 v4 h5)
  else
  (nn (gP h5 1500 this) fun a9 => (
  ca (fX14_holds F d a9 v4 h5) fun v11 h10 => (
  if v11 = 0 then
  (fX15_unpack_40 F d R_unpack this p0 v4 h10)
  else
  (nn (gP h10 404 p0) fun a14 => (
  ca (fX3_make F d a14 7 0 h10) fun v16 h15 => (
  fX15_unpack_41 F d R_unpack this p0 v4 v16 h15)))))))))
set_option maxHeartbeats 4000000 in
theorem tX15_unpack_45 (l : Launch) (w : Wd) (hfl : l.stackTraces = false) (F d : Nat) (R_unpack : Nat → Nat → Hp → Option (Option Nat × Hp)) (hR_unpack : ∀ {b : Nat} {p0 : Nat} (k_b : [6, 7, 8, 9, 11, 12].contains (nd_Kd b) = true) (k_p0 : nd_Kd p0 = 3) {h : Hp} {r : Option Nat × Hp}, R_unpack b p0 h = some r → nc_unpack l w b (1 + 8 * d) (30 + 400 * d) [vr (some b), vr (some p0)] h (.inl (some (vr r.1)), r.2)) (r : Option Nat × Hp) : ∀ (n : Nat) (this : Nat) (x1 : Nat) (x2 : Int32) (x3 : Option Nat) (x4 : Int32) (k_this : nd_Kd this = 11) (k_x1 : nd_Kd x1 = 3) (ok_x3 : ∀ b, x3 = some b → [13].contains (nd_Kd b) = true) (h : Hp), fX15_unpack_45 F d R_unpack n this x1 x2 x3 x4 h = some r → nd_V l w yX15_unpack cX15_unpack 5 (some (.object "NotationDesk$Part")) (3 + 8 * d) (83 + 400 * d) (.inl (some (vr r.1)), r.2) h 45 [(0, vr (some this)), (1, vr (some x1)), (2, vi x2), (3, vr x3), (4, vi x4)] [] := by
  intro n
  induction n with
  | zero => intro _ _ _ _ _ _ _ _ _ hf; cases hf
  | succ n ih =>
    intro this x1 x2 x3 x4 k_this k_x1 ok_x3 h hf
    unfold fX15_unpack_45 at hf
    refine nd_iload (j := 4) dX15_unpack_45 rfl ?_
    refine nd_iload_n (j := 2) dX15_unpack_47 rfl rfl ?_
    refine nd_icmp_ge (tgt := 78) dX15_unpack_48 (by decide) (fun c1 => ?_) (fun c1 => ?_)
    · replace hf := ifp c1 hf
      refine nd_aload_n (j := 3) dX15_unpack_78 rfl rfl ?_
      cases hf
      exact nd_aret (fun b e => okT13' (ok_x3 b e)) dX15_unpack_79
    · replace hf := ifn c1 hf
      refine nd_aload_n (j := 3) dX15_unpack_51 rfl rfl ?_
      refine nd_ifnull (tgt := 78) dX15_unpack_52 (by decide) (fun e_a2 => ?_) (fun a2 e_a2 => ?_)
      · replace hf := ocN e_a2 hf
        subst e_a2
        refine nd_aload_n (j := 3) dX15_unpack_78 rfl rfl ?_
        cases hf
        exact nd_aret (fun b e => by cases e) dX15_unpack_79
      · replace hf := ocS e_a2 hf
        have k_a2 : nd_Kd a2 = 13 := nd_c1 (ok_x3 a2 e_a2)
        subst e_a2
        refine nd_aload_n (j := 3) dX15_unpack_55 rfl rfl ?_
        refine nd_aload_n (j := 0) dX15_unpack_56 rfl rfl ?_
        refine nd_getP (k := 1) dX15_unpack_57 k_this rfl (Nat.le_of_ble_eq_true rfl) (nd_flO q634) rfl (fun ok3 => ?_)
        replace hf := bnE hf
        obtain ⟨o4, e_o4, hf⟩ := hf
        refine nd_topr e_o4 ?_
        have ok_o4 : ∀ b, o4 = some b → [6, 7, 8, 9, 11, 12].contains (nd_Kd b) = true := fun b q => ok3 b (e_o4 ▸ q)
        refine nd_aload_n (j := 1) dX15_unpack_60 rfl rfl ?_
        replace hf := nnE hf
        obtain ⟨a5, e_a5, hf⟩ := hf
        have k_a5 : [6, 7, 8, 9, 11, 12].contains (nd_Kd a5) = true := ok_o4 a5 e_a5
        subst e_a5
        replace hf := caE hf
        obtain ⟨v7, h6, e_h6, hf⟩ := hf
        refine nd_v_unpack [vr (some a2)] (hR_unpack k_a5 k_x1 e_h6) rfl dX15_unpack_61 q1002 k_a5 (by omega) (by omega) (Nat.le_of_ble_eq_true rfl) (fun ok8 => ?_)
        have ok_v7 : ∀ b, v7 = some b → [13].contains (nd_Kd b) = true := fun b q => okT13 (ok8 b q)
        replace hf := caE hf
        obtain ⟨v10, h9, e_h9, hf⟩ := hf
        refine nd_Si [] (tX15_add l w hfl F d k_a2 ok_v7 e_h9) rfl dX15_unpack_64 mw_X15_add (Or.inl q1006) q1007 (by omega) (by omega) (Nat.le_of_ble_eq_true rfl) ?_
        refine nd_if_ne (tgt := 72) dX15_unpack_67 (by decide) (fun c11 => ?_) (fun c11 => ?_)
        · replace hf := ifn c11 hf
          replace hf := bnE hf
          obtain ⟨v12, e_v12, hf⟩ := hf
          refine nd_iinc (v := v12) (j := 4) [(4, vi v12), (0, vr (some this)), (1, vr (some x1)), (2, vi x2), (3, vr (some a2))] dX15_unpack_72 rfl (by rw [e_v12]; rfl) (Nat.le_of_ble_eq_true rfl) rfl ?_
          refine nd_goto (tgt := 45) dX15_unpack_75 (by decide) ?_
          exact nd_loc [1, 2, 3, 4, 0] rfl (ih _ _ _ _ _ k_this k_x1 (fun b e => by cases e; rw [k_a2]; rfl) _ hf)
        · replace hf := ifp c11 hf
          refine nd_null dX15_unpack_70 ?_
          cases hf
          exact nd_aret (fun b e => by cases e) dX15_unpack_71
set_option maxHeartbeats 4000000 in
theorem tX15_unpack_41 (l : Launch) (w : Wd) (hfl : l.stackTraces = false) (F d : Nat) (R_unpack : Nat → Nat → Hp → Option (Option Nat × Hp)) (hR_unpack : ∀ {b : Nat} {p0 : Nat} (k_b : [6, 7, 8, 9, 11, 12].contains (nd_Kd b) = true) (k_p0 : nd_Kd p0 = 3) {h : Hp} {r : Option Nat × Hp}, R_unpack b p0 h = some r → nc_unpack l w b (1 + 8 * d) (30 + 400 * d) [vr (some b), vr (some p0)] h (.inl (some (vr r.1)), r.2)) (r : Option Nat × Hp) (this : Nat) (x1 : Nat) (x2 : Int32) (s0 : Option Nat) (k_this : nd_Kd this = 11) (k_x1 : nd_Kd x1 = 3) (ok_s0 : ∀ b, s0 = some b → [13].contains (nd_Kd b) = true) (h : Hp) (hf : fX15_unpack_41 F d R_unpack this x1 x2 s0 h = some r) : nd_V l w yX15_unpack cX15_unpack 5 (some (.object "NotationDesk$Part")) (3 + 8 * d) (83 + 400 * d) (.inl (some (vr r.1)), r.2) h 41 [(0, vr (some this)), (1, vr (some x1)), (2, vi x2)] [vr s0] := by
  unfold fX15_unpack_41 at hf
  refine nd_astore_n [(3, vr s0), (0, vr (some this)), (1, vr (some x1)), (2, vi x2)] dX15_unpack_41 rfl (Nat.le_of_ble_eq_true rfl) rfl ?_
  refine nd_iconst (v := 0) dX15_unpack_42 (by decide) ?_
  refine nd_istore [(4, vi 0), (3, vr s0), (0, vr (some this)), (1, vr (some x1)), (2, vi x2)] dX15_unpack_43 (Nat.le_of_ble_eq_true rfl) rfl ?_
  exact nd_loc [2, 3, 4, 1, 0] rfl (tX15_unpack_45 l w hfl F d R_unpack hR_unpack r F _ _ _ _ _ k_this k_x1 ok_s0 _ hf)
set_option maxHeartbeats 4000000 in
theorem tX15_unpack_40 (l : Launch) (w : Wd) (hfl : l.stackTraces = false) (F d : Nat) (R_unpack : Nat → Nat → Hp → Option (Option Nat × Hp)) (hR_unpack : ∀ {b : Nat} {p0 : Nat} (k_b : [6, 7, 8, 9, 11, 12].contains (nd_Kd b) = true) (k_p0 : nd_Kd p0 = 3) {h : Hp} {r : Option Nat × Hp}, R_unpack b p0 h = some r → nc_unpack l w b (1 + 8 * d) (30 + 400 * d) [vr (some b), vr (some p0)] h (.inl (some (vr r.1)), r.2)) (r : Option Nat × Hp) (this : Nat) (x1 : Nat) (x2 : Int32) (k_this : nd_Kd this = 11) (k_x1 : nd_Kd x1 = 3) (h : Hp) (hf : fX15_unpack_40 F d R_unpack this x1 x2 h = some r) : nd_V l w yX15_unpack cX15_unpack 5 (some (.object "NotationDesk$Part")) (3 + 8 * d) (83 + 400 * d) (.inl (some (vr r.1)), r.2) h 40 [(0, vr (some this)), (1, vr (some x1)), (2, vi x2)] [] := by
  unfold fX15_unpack_40 at hf
  refine nd_null dX15_unpack_40 ?_
  exact nd_loc [0, 1, 2] rfl (tX15_unpack_41 l w hfl F d R_unpack hR_unpack r _ _ _ _ k_this k_x1 (fun b e => by cases e) _ hf)
set_option maxHeartbeats 4000000 in
theorem tX15_unpack (l : Launch) (w : Wd) (hfl : l.stackTraces = false) (F d : Nat) (R_unpack : Nat → Nat → Hp → Option (Option Nat × Hp)) (hR_unpack : ∀ {b : Nat} {p0 : Nat} (k_b : [6, 7, 8, 9, 11, 12].contains (nd_Kd b) = true) (k_p0 : nd_Kd p0 = 3) {h : Hp} {r : Option Nat × Hp}, R_unpack b p0 h = some r → nc_unpack l w b (1 + 8 * d) (30 + 400 * d) [vr (some b), vr (some p0)] h (.inl (some (vr r.1)), r.2)) {this : Nat} {p0 : Nat} (k_this : nd_Kd this = 11) (k_p0 : nd_Kd p0 = 3) {h : Hp} {r : Option Nat × Hp} (hf : fX15_unpack F d R_unpack this p0 h = some r) : nd_C l w yX15_unpack cX15_unpack 5 (some (.object "NotationDesk$Part")) (3 + 8 * d) (83 + 400 * d) [vr (some this), vr (some p0)] h (.inl (some (vr r.1)), r.2) := by
  refine nd_start (as := [vr (some this), vr (some p0)]) hfl (by decide) (Nat.le_of_ble_eq_true rfl) ?_
  unfold fX15_unpack at hf
  refine nd_eqL (L' := [(0, vr (some this)), (1, vr (some p0))]) rfl ?_
  refine nd_aload_n (j := 0) dX15_unpack_0 rfl rfl ?_
  refine nd_getP (k := 0) dX15_unpack_1 k_this rfl (Nat.le_of_ble_eq_true rfl) (nd_flO q632) rfl (fun ok1 => ?_)
  replace hf := nnE hf
  obtain ⟨a2, e_a2, hf⟩ := hf
  refine nd_topr e_a2.symm ?_
  have k_a2 : nd_Kd a2 = 10 := nd_c1 (ok1 a2 e_a2)
  refine nd_aload_n (j := 1) dX15_unpack_4 rfl rfl ?_
  replace hf := caE hf
  obtain ⟨v4, h3, e_h3, hf⟩ := hf
  refine nd_Vi [] (tX14_unpack l w hfl F d k_a2 k_p0 e_h3) rfl dX15_unpack_5 mw_X14_unpack (Or.inl q998) k_a2 rfl q970 q971 (by omega) (by omega) (Nat.le_of_ble_eq_true rfl) ?_
  refine nd_istore_n [(2, vi v4), (0, vr (some this)), (1, vr (some p0))] dX15_unpack_8 rfl (Nat.le_of_ble_eq_true rfl) rfl ?_
  refine nd_aload_n (j := 2) dX15_unpack_9 rfl rfl ?_
  replace hf := caE hf
  obtain ⟨v6, h5, e_h5, hf⟩ := hf
  refine nd_Vi [] (tX4_isThere l w hfl F d k_p0 e_h5) rfl dX15_unpack_10 mw_X4_isThere (Or.inl q999) k_p0 rfl q886 q887 (by omega) (by omega) (Nat.le_of_ble_eq_true rfl) ?_
  refine nd_if_eq (tgt := 40) dX15_unpack_13 (by decide) (fun c7 => ?_) (fun c7 => ?_)
  · replace hf := ifp c7 hf
    exact nd_loc [1, 2, 0] rfl (tX15_unpack_40 l w hfl F d R_unpack hR_unpack r _ _ _ k_this k_p0 _ hf)
  · replace hf := ifn c7 hf
    refine nd_aload_n (j := 1) dX15_unpack_16 rfl rfl ?_
    refine nd_getP (k := 0) dX15_unpack_17 k_this rfl (Nat.le_of_ble_eq_true rfl) (nd_flO q632) rfl (fun ok8 => ?_)
    replace hf := nnE hf
    obtain ⟨a9, e_a9, hf⟩ := hf
    refine nd_topr e_a9.symm ?_
    have k_a9 : nd_Kd a9 = 10 := nd_c1 (ok8 a9 e_a9)
    refine nd_iload_n (j := 0) dX15_unpack_20 rfl rfl ?_
    replace hf := caE hf
    obtain ⟨v11, h10, e_h10, hf⟩ := hf
    refine nd_Vi [] (tX14_holds l w hfl F d k_a9 e_h10) rfl dX15_unpack_21 mw_X14_holds (Or.inl q1000) k_a9 rfl q976 q977 (by omega) (by omega) (Nat.le_of_ble_eq_true rfl) ?_
    refine nd_if_eq (tgt := 40) dX15_unpack_24 (by decide) (fun c12 => ?_) (fun c12 => ?_)
    · replace hf := ifp c12 hf
      exact nd_loc [1, 2, 0] rfl (tX15_unpack_40 l w hfl F d R_unpack hR_unpack r _ _ _ k_this k_p0 _ hf)
    · replace hf := ifn c12 hf
      refine nd_aload_n (j := 2) dX15_unpack_27 rfl rfl ?_
      refine nd_getP (k := 4) dX15_unpack_28 k_p0 rfl (Nat.le_of_ble_eq_true rfl) (nd_flN q240) rfl (fun ok13 => ?_)
      replace hf := nnE hf
      obtain ⟨a14, e_a14, hf⟩ := hf
      refine nd_topr e_a14.symm ?_
      have k_a14 : nd_Kd a14 = 2 := nd_c1 (ok13 a14 e_a14)
      refine nd_bipush (v := 7) dX15_unpack_31 (by decide) ?_
      refine nd_iconst (v := 0) dX15_unpack_33 (by decide) ?_
      replace hf := caE hf
      obtain ⟨v16, h15, e_h15, hf⟩ := hf
      refine nd_Vr [] (tX3_make l w hfl F d k_a14 e_h15) rfl dX15_unpack_34 mw_X3_make (Or.inl q1001) k_a14 rfl q897 q898 (by omega) (by omega) (Nat.le_of_ble_eq_true rfl) (fun ok17 => ?_)
      have ok_v16 : ∀ b, v16 = some b → [13].contains (nd_Kd b) = true := fun b q => okT13 (ok17 b q)
      refine nd_goto (tgt := 41) dX15_unpack_37 (by decide) ?_
      exact nd_loc [1, 2, 0] rfl (tX15_unpack_41 l w hfl F d R_unpack hR_unpack r _ _ _ _ k_this k_p0 ok_v16 _ hf)
def fX15_write_30 (F d : Nat) (R_write : Nat → Nat → Nat → Int32 → Hp → Option (Hp)) : Nat → Nat → Nat → Option Nat → Hp → Option (Hp)
  | 0, _, _, _, _ => none
  | n + 1, this, x2, x4, h =>
    oc x4
    (some h)
    (fun a1 =>
    bn (gP h 1501 this) fun o3 => (
    nn o3 fun a4 => (
    cv (R_write a4 a1 x2 (-1) h) fun h5 => (
    bn (gP h5 1708 a1) fun o8 => (
    fX15_write_30 F d R_write n this x2 o8 h5)))))
def fX15_write_16 (F d : Nat) (R_write : Nat → Nat → Nat → Int32 → Hp → Option (Hp)) (this : Nat) (x1 : Nat) (x2 : Nat) (s0 : Nat) (s1 : Int32) (h : Hp) : Option (Hp) :=
  ca (fX15_content F d (v_size F d) this x1 h) fun v2 h1 => (
  cv (fX5_header F d s0 s1 v2 h1) fun h3 => (
  bn (gP h3 1706 x1) fun o6 => (
  fX15_write_30 F d R_write F this x2 o6 h3)))
def fX15_write (F d : Nat) (R_write : Nat → Nat → Nat → Int32 → Hp → Option (Hp)) (this : Nat) (p0 : Nat) (p1 : Nat) (p2 : Int32) (h : Hp) : Option (Hp) :=
  if p2 = (-1) then
  (fX15_write_16 F d R_write this p0 p1 p1 48 h)
  else
  (fX15_write_16 F d R_write this p0 p1 p1 (160 + p2) h)
set_option maxHeartbeats 4000000 in
theorem tX15_write_30 (l : Launch) (w : Wd) (hfl : l.stackTraces = false) (F d : Nat) (R_write : Nat → Nat → Nat → Int32 → Hp → Option (Hp)) (hR_write : ∀ {b : Nat} {p0 : Nat} {p1 : Nat} {p2 : Int32} (k_b : [6, 7, 8, 9, 11, 12].contains (nd_Kd b) = true) (k_p0 : nd_Kd p0 = 13) (k_p1 : nd_Kd p1 = 4) {h : Hp} {r : Hp}, R_write b p0 p1 p2 h = some r → nc_write l w b (1 + 8 * d) (30 + 400 * d) [vr (some b), vr (some p0), vr (some p1), vi p2] h (.inl none, r)) (r : Hp) : ∀ (n : Nat) (this : Nat) (x2 : Nat) (x4 : Option Nat) (k_this : nd_Kd this = 11) (k_x2 : nd_Kd x2 = 4) (ok_x4 : ∀ b, x4 = some b → [13].contains (nd_Kd b) = true) (h : Hp), fX15_write_30 F d R_write n this x2 x4 h = some r → nd_V l w yX15_write cX15_write 5 none (3 + 8 * d) (74 + 400 * d) (.inl none, r) h 30 [(0, vr (some this)), (2, vr (some x2)), (4, vr x4)] [] := by
  intro n
  induction n with
  | zero => intro _ _ _ _ _ _ _ hf; cases hf
  | succ n ih =>
    intro this x2 x4 k_this k_x2 ok_x4 h hf
    unfold fX15_write_30 at hf
    refine nd_aload (j := 2) dX15_write_30 rfl ?_
    refine nd_ifnull (tgt := 56) dX15_write_32 (by decide) (fun e_a1 => ?_) (fun a1 e_a1 => ?_)
    · replace hf := ocN e_a1 hf
      subst e_a1
      cases hf
      exact nd_vret dX15_write_56
    · replace hf := ocS e_a1 hf
      have k_a1 : nd_Kd a1 = 13 := nd_c1 (ok_x4 a1 e_a1)
      subst e_a1
      refine nd_aload_n (j := 0) dX15_write_35 rfl rfl ?_
      refine nd_getP (k := 1) dX15_write_36 k_this rfl (Nat.le_of_ble_eq_true rfl) (nd_flO q634) rfl (fun ok2 => ?_)
      replace hf := bnE hf
      obtain ⟨o3, e_o3, hf⟩ := hf
      refine nd_topr e_o3 ?_
      have ok_o3 : ∀ b, o3 = some b → [6, 7, 8, 9, 11, 12].contains (nd_Kd b) = true := fun b q => ok2 b (e_o3 ▸ q)
      refine nd_aload (j := 2) dX15_write_39 rfl ?_
      refine nd_aload_n (j := 1) dX15_write_41 rfl rfl ?_
      refine nd_iconst (v := (-1)) dX15_write_42 (by decide) ?_
      replace hf := nnE hf
      obtain ⟨a4, e_a4, hf⟩ := hf
      have k_a4 : [6, 7, 8, 9, 11, 12].contains (nd_Kd a4) = true := ok_o3 a4 e_a4
      subst e_a4
      replace hf := cvE hf
      obtain ⟨h5, e_h5, hf⟩ := hf
      refine nd_v_write [] (hR_write k_a4 k_a1 k_x2 e_h5) rfl dX15_write_43 q1210 k_a4 (by omega) (by omega) (Nat.le_of_ble_eq_true rfl) ?_
      refine nd_aload (j := 2) dX15_write_46 rfl ?_
      refine nd_getP (k := 8) dX15_write_48 k_a1 rfl (Nat.le_of_ble_eq_true rfl) (nd_flN q931) rfl (fun ok7 => ?_)
      replace hf := bnE hf
      obtain ⟨o8, e_o8, hf⟩ := hf
      refine nd_topr e_o8 ?_
      have ok_o8 : ∀ b, o8 = some b → [13].contains (nd_Kd b) = true := fun b q => ok7 b (e_o8 ▸ q)
      refine nd_astore [(4, vr o8), (0, vr (some this)), (2, vr (some x2))] dX15_write_51 (Nat.le_of_ble_eq_true rfl) rfl ?_
      refine nd_goto (tgt := 30) dX15_write_53 (by decide) ?_
      exact nd_loc [1, 2, 0] rfl (ih _ _ _ k_this k_x2 ok_o8 _ hf)
set_option maxHeartbeats 4000000 in
theorem tX15_write_16 (l : Launch) (w : Wd) (hfl : l.stackTraces = false) (F d : Nat) (R_write : Nat → Nat → Nat → Int32 → Hp → Option (Hp)) (hR_write : ∀ {b : Nat} {p0 : Nat} {p1 : Nat} {p2 : Int32} (k_b : [6, 7, 8, 9, 11, 12].contains (nd_Kd b) = true) (k_p0 : nd_Kd p0 = 13) (k_p1 : nd_Kd p1 = 4) {h : Hp} {r : Hp}, R_write b p0 p1 p2 h = some r → nc_write l w b (1 + 8 * d) (30 + 400 * d) [vr (some b), vr (some p0), vr (some p1), vi p2] h (.inl none, r)) (r : Hp) (this : Nat) (x1 : Nat) (x2 : Nat) (s0 : Nat) (s1 : Int32) (k_this : nd_Kd this = 11) (k_x1 : nd_Kd x1 = 13) (k_x2 : nd_Kd x2 = 4) (k_s0 : nd_Kd s0 = 4) (h : Hp) (hf : fX15_write_16 F d R_write this x1 x2 s0 s1 h = some r) : nd_V l w yX15_write cX15_write 5 none (3 + 8 * d) (74 + 400 * d) (.inl none, r) h 16 [(0, vr (some this)), (1, vr (some x1)), (2, vr (some x2))] [vi s1, vr (some s0)] := by
  unfold fX15_write_16 at hf
  refine nd_aload_n (j := 0) dX15_write_16 rfl rfl ?_
  refine nd_aload_n (j := 1) dX15_write_17 rfl rfl ?_
  replace hf := caE hf
  obtain ⟨v2, h1, e_h1, hf⟩ := hf
  refine nd_Vi [vi s1, vr (some s0)] (tX15_content l w hfl F d (v_size F d) (tv_size l w hfl F d) k_this k_x1 e_h1) rfl dX15_write_18 mw_X15_content (Or.inl q1190) k_this rfl q1192 qs25 (by omega) (by omega) (Nat.le_of_ble_eq_true rfl) ?_
  replace hf := cvE hf
  obtain ⟨h3, e_h3, hf⟩ := hf
  refine nd_Vv [] (tX5_header l w hfl F d k_s0 e_h3) rfl dX15_write_21 mw_X5_header (Or.inl q1209) k_s0 rfl q1132 q1133 (by omega) (by omega) (Nat.le_of_ble_eq_true rfl) ?_
  refine nd_aload_n (j := 1) dX15_write_24 rfl rfl ?_
  refine nd_getP (k := 6) dX15_write_25 k_x1 rfl (Nat.le_of_ble_eq_true rfl) (nd_flN q925) rfl (fun ok5 => ?_)
  replace hf := bnE hf
  obtain ⟨o6, e_o6, hf⟩ := hf
  refine nd_topr e_o6 ?_
  have ok_o6 : ∀ b, o6 = some b → [13].contains (nd_Kd b) = true := fun b q => ok5 b (e_o6 ▸ q)
  refine nd_astore [(4, vr o6), (0, vr (some this)), (1, vr (some x1)), (2, vr (some x2))] dX15_write_28 (Nat.le_of_ble_eq_true rfl) rfl ?_
  exact nd_loc [1, 3, 0] rfl (tX15_write_30 l w hfl F d R_write hR_write r F _ _ _ k_this k_x2 ok_o6 _ hf)
set_option maxHeartbeats 4000000 in
theorem tX15_write (l : Launch) (w : Wd) (hfl : l.stackTraces = false) (F d : Nat) (R_write : Nat → Nat → Nat → Int32 → Hp → Option (Hp)) (hR_write : ∀ {b : Nat} {p0 : Nat} {p1 : Nat} {p2 : Int32} (k_b : [6, 7, 8, 9, 11, 12].contains (nd_Kd b) = true) (k_p0 : nd_Kd p0 = 13) (k_p1 : nd_Kd p1 = 4) {h : Hp} {r : Hp}, R_write b p0 p1 p2 h = some r → nc_write l w b (1 + 8 * d) (30 + 400 * d) [vr (some b), vr (some p0), vr (some p1), vi p2] h (.inl none, r)) {this : Nat} {p0 : Nat} {p1 : Nat} {p2 : Int32} (k_this : nd_Kd this = 11) (k_p0 : nd_Kd p0 = 13) (k_p1 : nd_Kd p1 = 4) {h : Hp} {r : Hp} (hf : fX15_write F d R_write this p0 p1 p2 h = some r) : nd_C l w yX15_write cX15_write 5 none (3 + 8 * d) (74 + 400 * d) [vr (some this), vr (some p0), vr (some p1), vi p2] h (.inl none, r) := by
  refine nd_start (as := [vr (some this), vr (some p0), vr (some p1), vi p2]) hfl (by decide) (Nat.le_of_ble_eq_true rfl) ?_
  unfold fX15_write at hf
  refine nd_eqL (L' := [(0, vr (some this)), (1, vr (some p0)), (2, vr (some p1)), (3, vi p2)]) rfl ?_
  refine nd_aload_n (j := 2) dX15_write_0 rfl rfl ?_
  refine nd_iload_n (j := 3) dX15_write_1 rfl rfl ?_
  refine nd_iconst (v := (-1)) dX15_write_2 (by decide) ?_
  refine nd_icmp_ne (tgt := 11) dX15_write_3 (by decide) (fun c1 => ?_) (fun c1 => ?_)
  · replace hf := ifn c1 hf
    refine nd_sipush (v := 160) dX15_write_11 (by decide) ?_
    refine nd_iload_n (j := 3) dX15_write_14 rfl rfl ?_
    refine nd_iadd dX15_write_15 ?_
    exact nd_loc [0, 1, 2] rfl (tX15_write_16 l w hfl F d R_write hR_write r _ _ _ _ _ k_this k_p0 k_p1 k_p1 _ hf)
  · replace hf := ifp c1 hf
    refine nd_bipush (v := 48) dX15_write_6 (by decide) ?_
    refine nd_goto (tgt := 16) dX15_write_8 (by decide) ?_
    exact nd_loc [0, 1, 2] rfl (tX15_write_16 l w hfl F d R_write hR_write r _ _ _ _ _ k_this k_p0 k_p1 k_p1 _ hf)
def v_readContent (F d : Nat) (b : Nat) (p0 : Nat) (p1 : Int32) (h : Hp) : Option (Option Nat × Hp) :=
    if nd_Kd b = 6 then fX9_readContent F d b p0 p1 h
    else if nd_Kd b = 9 then fX13_readContent F d b p0 p1 h
    else none
set_option maxHeartbeats 4000000 in
theorem tv_readContent (l : Launch) (w : Wd) (hfl : l.stackTraces = false) (F d : Nat) {b : Nat} {p0 : Nat} {p1 : Int32} (k_b : [6, 9].contains (nd_Kd b) = true) (k_p0 : nd_Kd p0 = 3) {h : Hp} {r : Option Nat × Hp} (hf : v_readContent F d b p0 p1 h = some r) : nc_readContent l w b 4 105 [vr (some b), vr (some p0), vi p1] h (.inl (some (vr r.1)), r.2) := by
  unfold v_readContent at hf
  refine ⟨fun e_ => ?_, fun e_ => ?_⟩
  · rw [if_pos e_] at hf
    exact nd_C.room (tX9_readContent l w hfl F d e_ k_p0 hf) (by omega) (by omega)
  · rw [if_neg (by omega)] at hf; rw [if_pos e_] at hf
    exact nd_C.room (tX13_readContent l w hfl F d e_ k_p0 hf) (by omega) (by omega)
def fX8_read_21 (F d : Nat) (this : Nat) (x1 : Nat) (s0 : Int32) (s1 : Int32) (h : Hp) : Option (Option Nat × Hp) :=
  if s0 = s1 then
  (ca (fX4_length F d x1 0 h) fun v3 h2 => (
  if v3 = (-1) then
  (some (none, h2))
  else
  (ca (v_readContent F d this x1 v3 h2) fun v6 h5 => (
  some (v6, h5)))))
  else
  (some (none, h))
def fX8_read (F d : Nat) (this : Nat) (p0 : Nat) (p1 : Int32) (h : Hp) : Option (Option Nat × Hp) :=
  ca (fX4_next F d p0 h) fun v2 h1 => (
  if p1 = (-1) then
  (fX8_read_21 F d this p0 v2 (gI h1 800 this) h1)
  else
  (fX8_read_21 F d this p0 v2 (128 + p1) h1))
set_option maxHeartbeats 4000000 in
theorem tX8_read_21 (l : Launch) (w : Wd) (hfl : l.stackTraces = false) (F d : Nat) (r : Option Nat × Hp) (this : Nat) (x1 : Nat) (s0 : Int32) (s1 : Int32) (k_this : [6, 9].contains (nd_Kd this) = true) (k_x1 : nd_Kd x1 = 3) (h : Hp) (hf : fX8_read_21 F d this x1 s0 s1 h = some r) : nd_V l w yX8_read cX8_read 4 (some (.object "NotationDesk$Part")) 5 129 (.inl (some (vr r.1)), r.2) h 21 [(0, vr (some this)), (1, vr (some x1))] [vi s1, vi s0] := by
  unfold fX8_read_21 at hf
  refine nd_icmp_eq (tgt := 26) dX8_read_21 (by decide) (fun c1 => ?_) (fun c1 => ?_)
  · replace hf := ifp c1 hf
    refine nd_aload_n (j := 1) dX8_read_26 rfl rfl ?_
    refine nd_iconst (v := 0) dX8_read_27 (by decide) ?_
    replace hf := caE hf
    obtain ⟨v3, h2, e_h2, hf⟩ := hf
    refine nd_Vi [] (tX4_length l w hfl F d k_x1 e_h2) rfl dX8_read_28 mw_X4_length (Or.inl q1057) k_x1 rfl q1058 q1059 (by omega) (by omega) (Nat.le_of_ble_eq_true rfl) ?_
    refine nd_istore_n [(3, vi v3), (0, vr (some this)), (1, vr (some x1))] dX8_read_31 rfl (Nat.le_of_ble_eq_true rfl) rfl ?_
    refine nd_iload_n (j := 0) dX8_read_32 rfl rfl ?_
    refine nd_iconst (v := (-1)) dX8_read_33 (by decide) ?_
    refine nd_icmp_ne (tgt := 41) dX8_read_34 (by decide) (fun c4 => ?_) (fun c4 => ?_)
    · replace hf := ifn c4 hf
      refine nd_aload_n (j := 1) dX8_read_41 rfl rfl ?_
      refine nd_aload_n (j := 2) dX8_read_42 rfl rfl ?_
      refine nd_iload_n (j := 0) dX8_read_43 rfl rfl ?_
      replace hf := caE hf
      obtain ⟨v6, h5, e_h5, hf⟩ := hf
      refine nd_v_readContent [] (tv_readContent l w hfl F d k_this k_x1 e_h5) rfl dX8_read_44 q1062 k_this (by omega) (by omega) (Nat.le_of_ble_eq_true rfl) (fun ok7 => ?_)
      have ok_v6 : ∀ b, v6 = some b → [13].contains (nd_Kd b) = true := fun b q => okT13 (ok7 b q)
      cases hf
      exact nd_aret (fun b e => okT13' (ok_v6 b e)) dX8_read_47
    · replace hf := ifp c4 hf
      refine nd_null dX8_read_37 ?_
      refine nd_goto (tgt := 47) dX8_read_38 (by decide) ?_
      cases hf
      exact nd_aret (fun b e => by cases e) dX8_read_47
  · replace hf := ifn c1 hf
    refine nd_null dX8_read_24 ?_
    cases hf
    exact nd_aret (fun b e => by cases e) dX8_read_25
set_option maxHeartbeats 4000000 in
theorem tX8_read (l : Launch) (w : Wd) (hfl : l.stackTraces = false) (F d : Nat) {this : Nat} {p0 : Nat} {p1 : Int32} (k_this : [6, 9].contains (nd_Kd this) = true) (k_p0 : nd_Kd p0 = 3) {h : Hp} {r : Option Nat × Hp} (hf : fX8_read F d this p0 p1 h = some r) : nd_C l w yX8_read cX8_read 4 (some (.object "NotationDesk$Part")) 5 129 [vr (some this), vr (some p0), vi p1] h (.inl (some (vr r.1)), r.2) := by
  refine nd_start (as := [vr (some this), vr (some p0), vi p1]) hfl (by decide) (Nat.le_of_ble_eq_true rfl) ?_
  unfold fX8_read at hf
  refine nd_eqL (L' := [(0, vr (some this)), (1, vr (some p0)), (2, vi p1)]) rfl ?_
  refine nd_aload_n (j := 1) dX8_read_0 rfl rfl ?_
  replace hf := caE hf
  obtain ⟨v2, h1, e_h1, hf⟩ := hf
  refine nd_Vi [] (tX4_next l w hfl F d k_p0 e_h1) rfl dX8_read_1 mw_X4_next (Or.inl q1053) k_p0 rfl q1054 q1055 (by omega) (by omega) (Nat.le_of_ble_eq_true rfl) ?_
  refine nd_iload_n (j := 2) dX8_read_4 rfl rfl ?_
  refine nd_iconst (v := (-1)) dX8_read_5 (by decide) ?_
  refine nd_icmp_ne (tgt := 16) dX8_read_6 (by decide) (fun c3 => ?_) (fun c3 => ?_)
  · replace hf := ifn c3 hf
    refine nd_sipush (v := 128) dX8_read_16 (by decide) ?_
    refine nd_iload_n (j := 2) dX8_read_19 rfl rfl ?_
    refine nd_iadd dX8_read_20 ?_
    exact nd_loc [0, 1] rfl (tX8_read_21 l w hfl F d r _ _ _ _ k_this k_p0 _ hf)
  · replace hf := ifp c3 hf
    refine nd_aload_n (j := 0) dX8_read_9 rfl rfl ?_
    refine nd_p2 k_this (fun k1_ kk_ => nd_getI (k := 0) dX8_read_10 k1_ rfl (Nat.le_of_ble_eq_true rfl) (nd_flO q428) rfl kk_) (fun k1_ kk_ => nd_getI (k := 0) dX8_read_10 k1_ rfl (Nat.le_of_ble_eq_true rfl) (nd_flO q428) rfl kk_) ?_
    refine nd_goto (tgt := 21) dX8_read_13 (by decide) ?_
    exact nd_loc [0, 1] rfl (tX8_read_21 l w hfl F d r _ _ _ _ k_this k_p0 _ hf)
def v_writeContent (F d : Nat) (b : Nat) (p0 : Nat) (p1 : Nat) (h : Hp) : Option (Hp) :=
    if nd_Kd b = 6 then fX9_writeContent F d b p0 p1 h
    else if nd_Kd b = 9 then fX13_writeContent F d b p0 p1 h
    else none
set_option maxHeartbeats 4000000 in
theorem tv_writeContent (l : Launch) (w : Wd) (hfl : l.stackTraces = false) (F d : Nat) {b : Nat} {p0 : Nat} {p1 : Nat} (k_b : [6, 9].contains (nd_Kd b) = true) (k_p0 : nd_Kd p0 = 13) (k_p1 : nd_Kd p1 = 4) {h : Hp} {r : Hp} (hf : v_writeContent F d b p0 p1 h = some r) : nc_writeContent l w b 3 67 [vr (some b), vr (some p0), vr (some p1)] h (.inl none, r) := by
  unfold v_writeContent at hf
  refine ⟨fun e_ => ?_, fun e_ => ?_⟩
  · rw [if_pos e_] at hf
    exact nd_C.room (tX9_writeContent l w hfl F d e_ k_p0 k_p1 hf) (by omega) (by omega)
  · rw [if_neg (by omega)] at hf; rw [if_pos e_] at hf
    exact nd_C.room (tX13_writeContent l w hfl F d e_ k_p0 k_p1 hf) (by omega) (by omega)
def fX8_write_18 (F d : Nat) (this : Nat) (x1 : Nat) (x2 : Nat) (s0 : Nat) (s1 : Int32) (h : Hp) : Option (Hp) :=
  ca (v_content F d this x1 h) fun v2 h1 => (
  cv (fX5_header F d s0 s1 v2 h1) fun h3 => (
  cv (v_writeContent F d this x1 x2 h3) fun h5 => (
  some h5)))
def fX8_write (F d : Nat) (this : Nat) (p0 : Nat) (p1 : Nat) (p2 : Int32) (h : Hp) : Option (Hp) :=
  if p2 = (-1) then
  (fX8_write_18 F d this p0 p1 p1 (gI h 800 this) h)
  else
  (fX8_write_18 F d this p0 p1 p1 (128 + p2) h)
set_option maxHeartbeats 4000000 in
theorem tX8_write_18 (l : Launch) (w : Wd) (hfl : l.stackTraces = false) (F d : Nat) (r : Hp) (this : Nat) (x1 : Nat) (x2 : Nat) (s0 : Nat) (s1 : Int32) (k_this : [6, 9].contains (nd_Kd this) = true) (k_x1 : nd_Kd x1 = 13) (k_x2 : nd_Kd x2 = 4) (k_s0 : nd_Kd s0 = 4) (h : Hp) (hf : fX8_write_18 F d this x1 x2 s0 s1 h = some r) : nd_V l w yX8_write cX8_write 4 none 4 90 (.inl none, r) h 18 [(0, vr (some this)), (1, vr (some x1)), (2, vr (some x2))] [vi s1, vr (some s0)] := by
  unfold fX8_write_18 at hf
  refine nd_aload_n (j := 0) dX8_write_18 rfl rfl ?_
  refine nd_aload_n (j := 1) dX8_write_19 rfl rfl ?_
  replace hf := caE hf
  obtain ⟨v2, h1, e_h1, hf⟩ := hf
  refine nd_v_content [vi s1, vr (some s0)] (tv_content l w hfl F d k_this k_x1 e_h1) rfl dX8_write_20 q1122 k_this (by omega) (by omega) (Nat.le_of_ble_eq_true rfl) ?_
  replace hf := cvE hf
  obtain ⟨h3, e_h3, hf⟩ := hf
  refine nd_Vv [] (tX5_header l w hfl F d k_s0 e_h3) rfl dX8_write_23 mw_X5_header (Or.inl q1131) k_s0 rfl q1132 q1133 (by omega) (by omega) (Nat.le_of_ble_eq_true rfl) ?_
  refine nd_aload_n (j := 0) dX8_write_26 rfl rfl ?_
  refine nd_aload_n (j := 1) dX8_write_27 rfl rfl ?_
  refine nd_aload_n (j := 2) dX8_write_28 rfl rfl ?_
  replace hf := cvE hf
  obtain ⟨h5, e_h5, hf⟩ := hf
  refine nd_v_writeContent [] (tv_writeContent l w hfl F d k_this k_x1 k_x2 e_h5) rfl dX8_write_29 q1143 k_this (by omega) (by omega) (Nat.le_of_ble_eq_true rfl) ?_
  cases hf
  exact nd_vret dX8_write_32
set_option maxHeartbeats 4000000 in
theorem tX8_write (l : Launch) (w : Wd) (hfl : l.stackTraces = false) (F d : Nat) {this : Nat} {p0 : Nat} {p1 : Nat} {p2 : Int32} (k_this : [6, 9].contains (nd_Kd this) = true) (k_p0 : nd_Kd p0 = 13) (k_p1 : nd_Kd p1 = 4) {h : Hp} {r : Hp} (hf : fX8_write F d this p0 p1 p2 h = some r) : nd_C l w yX8_write cX8_write 4 none 4 90 [vr (some this), vr (some p0), vr (some p1), vi p2] h (.inl none, r) := by
  refine nd_start (as := [vr (some this), vr (some p0), vr (some p1), vi p2]) hfl (by decide) (Nat.le_of_ble_eq_true rfl) ?_
  unfold fX8_write at hf
  refine nd_eqL (L' := [(0, vr (some this)), (1, vr (some p0)), (2, vr (some p1)), (3, vi p2)]) rfl ?_
  refine nd_aload_n (j := 2) dX8_write_0 rfl rfl ?_
  refine nd_iload_n (j := 3) dX8_write_1 rfl rfl ?_
  refine nd_iconst (v := (-1)) dX8_write_2 (by decide) ?_
  refine nd_icmp_ne (tgt := 13) dX8_write_3 (by decide) (fun c1 => ?_) (fun c1 => ?_)
  · replace hf := ifn c1 hf
    refine nd_sipush (v := 128) dX8_write_13 (by decide) ?_
    refine nd_iload_n (j := 3) dX8_write_16 rfl rfl ?_
    refine nd_iadd dX8_write_17 ?_
    exact nd_loc [0, 1, 2] rfl (tX8_write_18 l w hfl F d r _ _ _ _ _ k_this k_p0 k_p1 k_p1 _ hf)
  · replace hf := ifp c1 hf
    refine nd_aload_n (j := 0) dX8_write_6 rfl rfl ?_
    refine nd_p2 k_this (fun k1_ kk_ => nd_getI (k := 0) dX8_write_7 k1_ rfl (Nat.le_of_ble_eq_true rfl) (nd_flO q428) rfl kk_) (fun k1_ kk_ => nd_getI (k := 0) dX8_write_7 k1_ rfl (Nat.le_of_ble_eq_true rfl) (nd_flO q428) rfl kk_) ?_
    refine nd_goto (tgt := 18) dX8_write_10 (by decide) ?_
    exact nd_loc [0, 1, 2] rfl (tX8_write_18 l w hfl F d r _ _ _ _ _ k_this k_p0 k_p1 k_p1 _ hf)
def fX4_init (F d : Nat) (this : Nat) (h : Hp) : Option (Hp) :=
  bn 301 fun n3 => (
  ck (freA h n3 20 12) (
  bn (nw h n3 12) fun h2 => (
  bn (sP h2 405 this (some n3)) fun h4 => (
  bn 302 fun n7 => (
  ck (freA h4 n7 20 12) (
  bn (nw h4 n7 12) fun h6 => (
  bn (sP h6 406 this (some n7)) fun h8 => (
  some h8))))))))
set_option maxHeartbeats 4000000 in
theorem tX4_init (l : Launch) (w : Wd) (hfl : l.stackTraces = false) (F d : Nat) {this : Nat} (k_this : nd_Kd this = 3) {h : Hp} {r : Hp} (hf : fX4_init F d this h = some r) : nd_C l w yX4_init cX4_init 1 none 1 40 [vr (some this)] h (.inl none, r) := by
  refine nd_start (as := [vr (some this)]) hfl (by decide) (Nat.le_of_ble_eq_true rfl) ?_
  unfold fX4_init at hf
  refine nd_eqL (L' := [(0, vr (some this))]) rfl ?_
  refine nd_aload_n (j := 0) dX4_init_0 rfl rfl ?_
  refine nd_obj dX4_init_1 q230 q119 q120 (Nat.le_of_ble_eq_true rfl) (Nat.le_of_ble_eq_true rfl) ?_
  refine nd_aload_n (j := 0) dX4_init_4 rfl rfl ?_
  refine nd_bipush (v := 12) dX4_init_5 (by decide) ?_
  replace hf := bnE hf
  obtain ⟨n3, e_n3, hf⟩ := hf
  replace hf := ckE hf
  obtain ⟨c1, hf⟩ := hf
  refine nd_newI (n := n3) (z := 12) dX4_init_7 (by decide +kernel) (by decide) (Nat.le_of_ble_eq_true rfl) c1 ?_
  replace hf := bnE hf
  obtain ⟨h2, e_h2, hf⟩ := hf
  refine nd_hp e_h2 ?_
  have k_n3 : nd_Kd n3 = 20 := (freAE c1).2.1
  refine nd_putF (k := 5) (f := 405) dX4_init_9 k_this rfl (Nat.le_of_ble_eq_true rfl) q244 rfl rfl rfl rfl rfl (fun b e => by cases e; rw [k_n3]; rfl) ?_
  replace hf := bnE hf
  obtain ⟨h4, e_h4, hf⟩ := hf
  refine nd_hp e_h4 ?_
  refine nd_aload_n (j := 0) dX4_init_12 rfl rfl ?_
  refine nd_bipush (v := 12) dX4_init_13 (by decide) ?_
  replace hf := bnE hf
  obtain ⟨n7, e_n7, hf⟩ := hf
  replace hf := ckE hf
  obtain ⟨c5, hf⟩ := hf
  refine nd_newI (n := n7) (z := 12) dX4_init_15 (by decide +kernel) (by decide) (Nat.le_of_ble_eq_true rfl) c5 ?_
  replace hf := bnE hf
  obtain ⟨h6, e_h6, hf⟩ := hf
  refine nd_hp e_h6 ?_
  have k_n7 : nd_Kd n7 = 20 := (freAE c5).2.1
  refine nd_putF (k := 6) (f := 406) dX4_init_17 k_this rfl (Nat.le_of_ble_eq_true rfl) q245 rfl rfl rfl rfl rfl (fun b e => by cases e; rw [k_n7]; rfl) ?_
  replace hf := bnE hf
  obtain ⟨h8, e_h8, hf⟩ := hf
  refine nd_hp e_h8 ?_
  cases hf
  exact nd_vret dX4_init_20
def fX4_begin (F d : Nat) (this : Nat) (p0 : Nat) (p1 : Int32) (p2 : Int32) (p3 : Nat) (h : Hp) : Option (Hp) :=
  bn (sP h 400 this (some p0)) fun h1 => (
  bn (sI h1 401 this p1) fun h2 => (
  bn (sI h2 402 this p2) fun h3 => (
  bn (sI h3 403 this (8 * p1)) fun h4 => (
  bn (sP h4 404 this (some p3)) fun h5 => (
  bn (sI h5 407 this 0) fun h6 => (
  some h6))))))
set_option maxHeartbeats 4000000 in
theorem tX4_begin (l : Launch) (w : Wd) (hfl : l.stackTraces = false) (F d : Nat) {this : Nat} {p0 : Nat} {p1 : Int32} {p2 : Int32} {p3 : Nat} (k_this : nd_Kd this = 3) (k_p0 : nd_Kd p0 = 20) (k_p3 : nd_Kd p3 = 2) {h : Hp} {r : Hp} (hf : fX4_begin F d this p0 p1 p2 p3 h = some r) : nd_C l w yX4_begin cX4_begin 5 none 0 0 [vr (some this), vr (some p0), vi p1, vi p2, vr (some p3)] h (.inl none, r) := by
  refine nd_start (as := [vr (some this), vr (some p0), vi p1, vi p2, vr (some p3)]) hfl (by decide) (Nat.le_of_ble_eq_true rfl) ?_
  unfold fX4_begin at hf
  refine nd_eqL (L' := [(0, vr (some this)), (1, vr (some p0)), (2, vi p1), (3, vi p2), (4, vr (some p3))]) rfl ?_
  refine nd_aload_n (j := 0) dX4_begin_0 rfl rfl ?_
  refine nd_aload_n (j := 1) dX4_begin_1 rfl rfl ?_
  refine nd_putP (k := 0) (f := 400) dX4_begin_2 k_this rfl (Nat.le_of_ble_eq_true rfl) (nd_flO q231) rfl rfl rfl rfl (fun b e => by cases e; rw [k_p0]; rfl) ?_
  replace hf := bnE hf
  obtain ⟨h1, e_h1, hf⟩ := hf
  refine nd_hp e_h1 ?_
  refine nd_aload_n (j := 0) dX4_begin_5 rfl rfl ?_
  refine nd_iload_n (j := 2) dX4_begin_6 rfl rfl ?_
  refine nd_putN (k := 1) dX4_begin_7 k_this rfl (Nat.le_of_ble_eq_true rfl) (nd_flO q232) rfl rfl rfl ?_
  replace hf := bnE hf
  obtain ⟨h2, e_h2, hf⟩ := hf
  refine nd_hp e_h2 ?_
  refine nd_aload_n (j := 0) dX4_begin_10 rfl rfl ?_
  refine nd_iload_n (j := 3) dX4_begin_11 rfl rfl ?_
  refine nd_putN (k := 2) dX4_begin_12 k_this rfl (Nat.le_of_ble_eq_true rfl) (nd_flO q234) rfl rfl rfl ?_
  replace hf := bnE hf
  obtain ⟨h3, e_h3, hf⟩ := hf
  refine nd_hp e_h3 ?_
  refine nd_aload_n (j := 0) dX4_begin_15 rfl rfl ?_
  refine nd_bipush (v := 8) dX4_begin_16 (by decide) ?_
  refine nd_iload_n (j := 2) dX4_begin_18 rfl rfl ?_
  refine nd_imul dX4_begin_19 ?_
  refine nd_putN (k := 3) dX4_begin_20 k_this rfl (Nat.le_of_ble_eq_true rfl) (nd_flO q236) rfl rfl rfl ?_
  replace hf := bnE hf
  obtain ⟨h4, e_h4, hf⟩ := hf
  refine nd_hp e_h4 ?_
  refine nd_aload_n (j := 0) dX4_begin_23 rfl rfl ?_
  refine nd_aload (j := 4) dX4_begin_24 rfl ?_
  refine nd_putP (k := 4) (f := 404) dX4_begin_26 k_this rfl (Nat.le_of_ble_eq_true rfl) (nd_flO q238) rfl rfl rfl rfl (fun b e => by cases e; rw [k_p3]; rfl) ?_
  replace hf := bnE hf
  obtain ⟨h5, e_h5, hf⟩ := hf
  refine nd_hp e_h5 ?_
  refine nd_aload_n (j := 0) dX4_begin_29 rfl rfl ?_
  refine nd_iconst (v := 0) dX4_begin_30 (by decide) ?_
  refine nd_putN (k := 7) dX4_begin_31 k_this rfl (Nat.le_of_ble_eq_true rfl) (nd_flO q246) rfl rfl rfl ?_
  replace hf := bnE hf
  obtain ⟨h6, e_h6, hf⟩ := hf
  refine nd_hp e_h6 ?_
  cases hf
  exact nd_vret dX4_begin_34
def fX3_init (F d : Nat) (this : Nat) (h : Hp) : Option (Hp) :=
  bn (this + 1) fun n3 => (
  ck (freA h n3 31 100) (
  bn (nw h n3 100) fun h2 => (
  bn (sP h2 300 this (some n3)) fun h4 => (
  bn (this + 2) fun n7 => (
  ck (freA h4 n7 31 100) (
  bn (nw h4 n7 100) fun h6 => (
  bn (sP h6 301 this (some n7)) fun h8 => (
  bn (this + 3) fun n11 => (
  ck (freA h8 n11 20 120) (
  bn (nw h8 n11 120) fun h10 => (
  bn (sP h10 302 this (some n11)) fun h12 => (
  some h12))))))))))))
set_option maxHeartbeats 4000000 in
theorem tX3_init (l : Launch) (w : Wd) (hfl : l.stackTraces = false) (F d : Nat) {this : Nat} (k_this : nd_Kd this = 2) {h : Hp} {r : Hp} (hf : fX3_init F d this h = some r) : nd_C l w yX3_init cX3_init 1 none 1 40 [vr (some this)] h (.inl none, r) := by
  refine nd_start (as := [vr (some this)]) hfl (by decide) (Nat.le_of_ble_eq_true rfl) ?_
  unfold fX3_init at hf
  refine nd_eqL (L' := [(0, vr (some this))]) rfl ?_
  refine nd_aload_n (j := 0) dX3_init_0 rfl rfl ?_
  refine nd_obj dX3_init_1 q198 q119 q120 (Nat.le_of_ble_eq_true rfl) (Nat.le_of_ble_eq_true rfl) ?_
  refine nd_aload_n (j := 0) dX3_init_4 rfl rfl ?_
  refine nd_bipush (v := 100) dX3_init_5 (by decide) ?_
  replace hf := bnE hf
  obtain ⟨n3, e_n3, hf⟩ := hf
  replace hf := ckE hf
  obtain ⟨c1, hf⟩ := hf
  refine nd_newR (n := n3) (z := 100) (t := 11) (ka := 31) dX3_init_7 q199 q200 (by decide) rfl (fun _ => rfl) (by decide +kernel) (by decide) (Nat.le_of_ble_eq_true rfl) c1 ?_
  replace hf := bnE hf
  obtain ⟨h2, e_h2, hf⟩ := hf
  refine nd_hp e_h2 ?_
  have k_n3 : nd_Kd n3 = 31 := (freAE c1).2.1
  refine nd_putF (k := 0) (f := 300) dX3_init_10 k_this rfl (Nat.le_of_ble_eq_true rfl) q201 rfl rfl rfl rfl rfl (fun b e => by cases e; rw [k_n3]; rfl) ?_
  replace hf := bnE hf
  obtain ⟨h4, e_h4, hf⟩ := hf
  refine nd_hp e_h4 ?_
  refine nd_aload_n (j := 0) dX3_init_13 rfl rfl ?_
  refine nd_bipush (v := 100) dX3_init_14 (by decide) ?_
  replace hf := bnE hf
  obtain ⟨n7, e_n7, hf⟩ := hf
  replace hf := ckE hf
  obtain ⟨c5, hf⟩ := hf
  refine nd_newR (n := n7) (z := 100) (t := 11) (ka := 31) dX3_init_16 q199 q200 (by decide) rfl (fun _ => rfl) (by decide +kernel) (by decide) (Nat.le_of_ble_eq_true rfl) c5 ?_
  replace hf := bnE hf
  obtain ⟨h6, e_h6, hf⟩ := hf
  refine nd_hp e_h6 ?_
  have k_n7 : nd_Kd n7 = 31 := (freAE c5).2.1
  refine nd_putF (k := 1) (f := 301) dX3_init_19 k_this rfl (Nat.le_of_ble_eq_true rfl) q202 rfl rfl rfl rfl rfl (fun b e => by cases e; rw [k_n7]; rfl) ?_
  replace hf := bnE hf
  obtain ⟨h8, e_h8, hf⟩ := hf
  refine nd_hp e_h8 ?_
  refine nd_aload_n (j := 0) dX3_init_22 rfl rfl ?_
  refine nd_bipush (v := 120) dX3_init_23 (by decide) ?_
  replace hf := bnE hf
  obtain ⟨n11, e_n11, hf⟩ := hf
  replace hf := ckE hf
  obtain ⟨c9, hf⟩ := hf
  refine nd_newI (n := n11) (z := 120) dX3_init_25 (by decide +kernel) (by decide) (Nat.le_of_ble_eq_true rfl) c9 ?_
  replace hf := bnE hf
  obtain ⟨h10, e_h10, hf⟩ := hf
  refine nd_hp e_h10 ?_
  have k_n11 : nd_Kd n11 = 20 := (freAE c9).2.1
  refine nd_putF (k := 2) (f := 302) dX3_init_27 k_this rfl (Nat.le_of_ble_eq_true rfl) q204 rfl rfl rfl rfl rfl (fun b e => by cases e; rw [k_n11]; rfl) ?_
  replace hf := bnE hf
  obtain ⟨h12, e_h12, hf⟩ := hf
  refine nd_hp e_h12 ?_
  cases hf
  exact nd_vret dX3_init_30
def fX3_arrange_38 (F d : Nat) (R_arrange : Nat → Nat → Int32 → Hp → Option (Hp)) : Nat → Nat → Nat → Option Nat → Hp → Option (Hp)
  | 0, _, _, _, _ => none
  | n + 1, x0, x1, x3, h =>
    oc x3
    (some h)
    (fun a1 =>
    cv (R_arrange x0 a1 (gI h 1705 x1) h) fun h2 => (
    bn (gP h2 1708 a1) fun o5 => (
    fX3_arrange_38 F d R_arrange n x0 x1 o5 h2)))
def fX3_arrange (F d : Nat) (R_arrange : Nat → Nat → Int32 → Hp → Option (Hp)) (p0 : Nat) (p1 : Nat) (p2 : Int32) (h : Hp) : Option (Hp) :=
  bn (sI h 1704 p1 p2) fun h1 => (
  bn (sI h1 1705 p1 (gI h1 305 p0)) fun h2 => (
  nn (gP h2 301 p0) fun a4 => (
  ck (inb (gI h2 305 p0) (nd_Ln a4)) (
  bn (sR h2 a4 (Int32.toNatClampNeg (gI h2 305 p0)) (some p1)) fun h6 => (
  bn (sI h6 305 p0 ((gI h6 305 p0) + 1)) fun h7 => (
  bn (gP h7 1706 p1) fun o9 => (
  fX3_arrange_38 F d R_arrange F p0 p1 o9 h7)))))))
set_option maxHeartbeats 4000000 in
theorem tX3_arrange_38 (l : Launch) (w : Wd) (hfl : l.stackTraces = false) (F d : Nat) (R_arrange : Nat → Nat → Int32 → Hp → Option (Hp)) (hR_arrange : ∀ {p0 : Nat} {p1 : Nat} {p2 : Int32} (k_p0 : nd_Kd p0 = 2) (k_p1 : nd_Kd p1 = 13) {h : Hp} {r : Hp}, R_arrange p0 p1 p2 h = some r → nd_C l w yX3_arrange cX3_arrange 4 none (1 + 8 * d) (30 + 400 * d) [vr (some p0), vr (some p1), vi p2] h (.inl none, r)) (r : Hp) : ∀ (n : Nat) (x0 : Nat) (x1 : Nat) (x3 : Option Nat) (k_x0 : nd_Kd x0 = 2) (k_x1 : nd_Kd x1 = 13) (ok_x3 : ∀ b, x3 = some b → [13].contains (nd_Kd b) = true) (h : Hp), fX3_arrange_38 F d R_arrange n x0 x1 x3 h = some r → nd_V l w yX3_arrange cX3_arrange 4 none (2 + 8 * d) (53 + 400 * d) (.inl none, r) h 38 [(0, vr (some x0)), (1, vr (some x1)), (3, vr x3)] [] := by
  intro n
  induction n with
  | zero => intro _ _ _ _ _ _ _ hf; cases hf
  | succ n ih =>
    intro x0 x1 x3 k_x0 k_x1 ok_x3 h hf
    unfold fX3_arrange_38 at hf
    refine nd_aload_n (j := 2) dX3_arrange_38 rfl rfl ?_
    refine nd_ifnull (tgt := 59) dX3_arrange_39 (by decide) (fun e_a1 => ?_) (fun a1 e_a1 => ?_)
    · replace hf := ocN e_a1 hf
      subst e_a1
      cases hf
      exact nd_vret dX3_arrange_59
    · replace hf := ocS e_a1 hf
      have k_a1 : nd_Kd a1 = 13 := nd_c1 (ok_x3 a1 e_a1)
      subst e_a1
      refine nd_aload_n (j := 0) dX3_arrange_42 rfl rfl ?_
      refine nd_aload_n (j := 2) dX3_arrange_43 rfl rfl ?_
      refine nd_aload_n (j := 1) dX3_arrange_44 rfl rfl ?_
      refine nd_getI (k := 5) dX3_arrange_45 k_x1 rfl (Nat.le_of_ble_eq_true rfl) (nd_flN q922) rfl ?_
      replace hf := cvE hf
      obtain ⟨h2, e_h2, hf⟩ := hf
      refine nd_Sv [] (hR_arrange k_x0 k_a1 e_h2) rfl dX3_arrange_48 mw_X3_arrange (Or.inl q1293) q1291 (by omega) (by omega) (Nat.le_of_ble_eq_true rfl) ?_
      refine nd_aload_n (j := 2) dX3_arrange_51 rfl rfl ?_
      refine nd_getP (k := 8) dX3_arrange_52 k_a1 rfl (Nat.le_of_ble_eq_true rfl) (nd_flN q930) rfl (fun ok4 => ?_)
      replace hf := bnE hf
      obtain ⟨o5, e_o5, hf⟩ := hf
      refine nd_topr e_o5 ?_
      have ok_o5 : ∀ b, o5 = some b → [13].contains (nd_Kd b) = true := fun b q => ok4 b (e_o5 ▸ q)
      refine nd_astore_n [(3, vr o5), (0, vr (some x0)), (1, vr (some x1))] dX3_arrange_55 rfl (Nat.le_of_ble_eq_true rfl) rfl ?_
      refine nd_goto (tgt := 38) dX3_arrange_56 (by decide) ?_
      exact nd_loc [1, 2, 0] rfl (ih _ _ _ k_x0 k_x1 ok_o5 _ hf)
set_option maxHeartbeats 4000000 in
theorem tX3_arrange (l : Launch) (w : Wd) (hfl : l.stackTraces = false) (F d : Nat) (R_arrange : Nat → Nat → Int32 → Hp → Option (Hp)) (hR_arrange : ∀ {p0 : Nat} {p1 : Nat} {p2 : Int32} (k_p0 : nd_Kd p0 = 2) (k_p1 : nd_Kd p1 = 13) {h : Hp} {r : Hp}, R_arrange p0 p1 p2 h = some r → nd_C l w yX3_arrange cX3_arrange 4 none (1 + 8 * d) (30 + 400 * d) [vr (some p0), vr (some p1), vi p2] h (.inl none, r)) {p0 : Nat} {p1 : Nat} {p2 : Int32} (k_p0 : nd_Kd p0 = 2) (k_p1 : nd_Kd p1 = 13) {h : Hp} {r : Hp} (hf : fX3_arrange F d R_arrange p0 p1 p2 h = some r) : nd_C l w yX3_arrange cX3_arrange 4 none (2 + 8 * d) (53 + 400 * d) [vr (some p0), vr (some p1), vi p2] h (.inl none, r) := by
  refine nd_start (as := [vr (some p0), vr (some p1), vi p2]) hfl (by decide) (Nat.le_of_ble_eq_true rfl) ?_
  unfold fX3_arrange at hf
  refine nd_eqL (L' := [(0, vr (some p0)), (1, vr (some p1)), (2, vi p2)]) rfl ?_
  refine nd_aload_n (j := 1) dX3_arrange_0 rfl rfl ?_
  refine nd_iload_n (j := 2) dX3_arrange_1 rfl rfl ?_
  refine nd_putN (k := 4) dX3_arrange_2 k_p1 rfl (Nat.le_of_ble_eq_true rfl) (nd_flN q920) rfl rfl rfl ?_
  replace hf := bnE hf
  obtain ⟨h1, e_h1, hf⟩ := hf
  refine nd_hp e_h1 ?_
  refine nd_aload_n (j := 1) dX3_arrange_5 rfl rfl ?_
  refine nd_aload_n (j := 0) dX3_arrange_6 rfl rfl ?_
  refine nd_getI (k := 5) dX3_arrange_7 k_p0 rfl (Nat.le_of_ble_eq_true rfl) (nd_flO q210) rfl ?_
  refine nd_putN (k := 5) dX3_arrange_10 k_p1 rfl (Nat.le_of_ble_eq_true rfl) (nd_flN q922) rfl rfl rfl ?_
  replace hf := bnE hf
  obtain ⟨h2, e_h2, hf⟩ := hf
  refine nd_hp e_h2 ?_
  refine nd_aload_n (j := 0) dX3_arrange_13 rfl rfl ?_
  refine nd_getP (k := 1) dX3_arrange_14 k_p0 rfl (Nat.le_of_ble_eq_true rfl) (nd_flO q202) rfl (fun ok3 => ?_)
  replace hf := nnE hf
  obtain ⟨a4, e_a4, hf⟩ := hf
  refine nd_topr e_a4.symm ?_
  have k_a4 : nd_Kd a4 = 31 := nd_c1 (ok3 a4 e_a4)
  refine nd_aload_n (j := 0) dX3_arrange_17 rfl rfl ?_
  refine nd_getI (k := 5) dX3_arrange_18 k_p0 rfl (Nat.le_of_ble_eq_true rfl) (nd_flO q210) rfl ?_
  refine nd_aload_n (j := 1) dX3_arrange_21 rfl rfl ?_
  replace hf := ckE hf
  obtain ⟨c5, hf⟩ := hf
  refine nd_aast (t := 11) (C := "NotationDesk$Part") dX3_arrange_22 k_a4 (by decide) (fun _ => rfl) c5 (fun b e => by cases e; exact nd_asX11 k_p1) ?_
  replace hf := bnE hf
  obtain ⟨h6, e_h6, hf⟩ := hf
  refine nd_hp e_h6 ?_
  refine nd_aload_n (j := 0) dX3_arrange_23 rfl rfl ?_
  refine nd_dup dX3_arrange_24 rfl ?_
  refine nd_getI (k := 5) dX3_arrange_25 k_p0 rfl (Nat.le_of_ble_eq_true rfl) (nd_flO q210) rfl ?_
  refine nd_iconst (v := 1) dX3_arrange_28 (by decide) ?_
  refine nd_iadd dX3_arrange_29 ?_
  refine nd_putN (k := 5) dX3_arrange_30 k_p0 rfl (Nat.le_of_ble_eq_true rfl) (nd_flO q210) rfl rfl rfl ?_
  replace hf := bnE hf
  obtain ⟨h7, e_h7, hf⟩ := hf
  refine nd_hp e_h7 ?_
  refine nd_aload_n (j := 1) dX3_arrange_33 rfl rfl ?_
  refine nd_getP (k := 6) dX3_arrange_34 k_p1 rfl (Nat.le_of_ble_eq_true rfl) (nd_flN q924) rfl (fun ok8 => ?_)
  replace hf := bnE hf
  obtain ⟨o9, e_o9, hf⟩ := hf
  refine nd_topr e_o9 ?_
  have ok_o9 : ∀ b, o9 = some b → [13].contains (nd_Kd b) = true := fun b q => ok8 b (e_o9 ▸ q)
  refine nd_astore_n [(3, vr o9), (0, vr (some p0)), (1, vr (some p1)), (2, vi p2)] dX3_arrange_37 rfl (Nat.le_of_ble_eq_true rfl) rfl ?_
  exact nd_loc [1, 2, 0] rfl (tX3_arrange_38 l w hfl F d R_arrange hR_arrange r F _ _ _ k_p0 k_p1 ok_o9 _ hf)
def fX3_clear (F d : Nat) (this : Nat) (h : Hp) : Option (Hp) :=
  bn (sI h 303 this 0) fun h1 => (
  bn (sI h1 304 this 0) fun h2 => (
  bn (sI h2 305 this 0) fun h3 => (
  some h3)))
set_option maxHeartbeats 4000000 in
theorem tX3_clear (l : Launch) (w : Wd) (hfl : l.stackTraces = false) (F d : Nat) {this : Nat} (k_this : nd_Kd this = 2) {h : Hp} {r : Hp} (hf : fX3_clear F d this h = some r) : nd_C l w yX3_clear cX3_clear 1 none 0 0 [vr (some this)] h (.inl none, r) := by
  refine nd_start (as := [vr (some this)]) hfl (by decide) (Nat.le_of_ble_eq_true rfl) ?_
  unfold fX3_clear at hf
  refine nd_eqL (L' := [(0, vr (some this))]) rfl ?_
  refine nd_aload_n (j := 0) dX3_clear_0 rfl rfl ?_
  refine nd_iconst (v := 0) dX3_clear_1 (by decide) ?_
  refine nd_putN (k := 3) dX3_clear_2 k_this rfl (Nat.le_of_ble_eq_true rfl) (nd_flO q207) rfl rfl rfl ?_
  replace hf := bnE hf
  obtain ⟨h1, e_h1, hf⟩ := hf
  refine nd_hp e_h1 ?_
  refine nd_aload_n (j := 0) dX3_clear_5 rfl rfl ?_
  refine nd_iconst (v := 0) dX3_clear_6 (by decide) ?_
  refine nd_putN (k := 4) dX3_clear_7 k_this rfl (Nat.le_of_ble_eq_true rfl) (nd_flO q209) rfl rfl rfl ?_
  replace hf := bnE hf
  obtain ⟨h2, e_h2, hf⟩ := hf
  refine nd_hp e_h2 ?_
  refine nd_aload_n (j := 0) dX3_clear_10 rfl rfl ?_
  refine nd_iconst (v := 0) dX3_clear_11 (by decide) ?_
  refine nd_putN (k := 5) dX3_clear_12 k_this rfl (Nat.le_of_ble_eq_true rfl) (nd_flO q210) rfl rfl rfl ?_
  replace hf := bnE hf
  obtain ⟨h3, e_h3, hf⟩ := hf
  refine nd_hp e_h3 ?_
  cases hf
  exact nd_vret dX3_clear_15
def fX16_pack (F d : Nat) (R_pack : Nat → Nat → Nat → Hp → Option (Hp)) (this : Nat) (p0 : Nat) (p1 : Nat) (h : Hp) : Option (Hp) :=
  nn (gP h 1602 this) fun a2 => (
  cv (R_pack a2 p0 p1 h) fun h3 => (
  some h3))
set_option maxHeartbeats 4000000 in
theorem tX16_pack (l : Launch) (w : Wd) (hfl : l.stackTraces = false) (F d : Nat) (R_pack : Nat → Nat → Nat → Hp → Option (Hp)) (hR_pack : ∀ {b : Nat} {p0 : Nat} {p1 : Nat} (k_b : [6, 7, 8, 9, 11, 12].contains (nd_Kd b) = true) (k_p0 : nd_Kd p0 = 13) (k_p1 : nd_Kd p1 = 4) {h : Hp} {r : Hp}, R_pack b p0 p1 h = some r → nc_pack l w b (1 + 8 * d) (30 + 400 * d) [vr (some b), vr (some p0), vr (some p1)] h (.inl none, r)) {this : Nat} {p0 : Nat} {p1 : Nat} (k_this : nd_Kd this = 12) (k_p0 : nd_Kd p0 = 13) (k_p1 : nd_Kd p1 = 4) {h : Hp} {r : Hp} (hf : fX16_pack F d R_pack this p0 p1 h = some r) : nd_C l w yX16_pack cX16_pack 3 none (2 + 8 * d) (53 + 400 * d) [vr (some this), vr (some p0), vr (some p1)] h (.inl none, r) := by
  refine nd_start (as := [vr (some this), vr (some p0), vr (some p1)]) hfl (by decide) (Nat.le_of_ble_eq_true rfl) ?_
  unfold fX16_pack at hf
  refine nd_eqL (L' := [(0, vr (some this)), (1, vr (some p0)), (2, vr (some p1))]) rfl ?_
  refine nd_aload_n (j := 0) dX16_pack_0 rfl rfl ?_
  refine nd_getP (k := 2) dX16_pack_1 k_this rfl (Nat.le_of_ble_eq_true rfl) (nd_flO q648) rfl (fun ok1 => ?_)
  replace hf := nnE hf
  obtain ⟨a2, e_a2, hf⟩ := hf
  refine nd_topr e_a2.symm ?_
  have k_a2 : [6, 7, 8, 9, 11, 12].contains (nd_Kd a2) = true := ok1 a2 e_a2
  refine nd_aload_n (j := 1) dX16_pack_4 rfl rfl ?_
  refine nd_aload_n (j := 2) dX16_pack_5 rfl rfl ?_
  replace hf := cvE hf
  obtain ⟨h3, e_h3, hf⟩ := hf
  refine nd_v_pack [] (hR_pack k_a2 k_p0 k_p1 e_h3) rfl dX16_pack_6 q1262 k_a2 (by omega) (by omega) (Nat.le_of_ble_eq_true rfl) ?_
  cases hf
  exact nd_vret dX16_pack_9
def fX16_read_56 (F d : Nat) (R_read : Nat → Nat → Int32 → Hp → Option (Option Nat × Hp)) (x1 : Nat) (s0 : Option Nat) (h : Hp) : Option (Option Nat × Hp) :=
  oc s0
  (some (none, h))
  (fun a1 =>
  ca (fX4_leave F d x1 h) fun v3 h2 => (
  if v3 = 0 then
  (some (none, h2))
  else
  (some ((some a1), h2))))
def fX16_read_13 (F d : Nat) (R_read : Nat → Nat → Int32 → Hp → Option (Option Nat × Hp)) (this : Nat) (x1 : Nat) (s0 : Int32) (h : Hp) : Option (Option Nat × Hp) :=
  if (gI h 1601 this) = 0 then
  (nn (gP h 1602 this) fun a11 => (
  ca (R_read a11 x1 s0 h) fun v13 h12 => (
  some (v13, h12))))
  else
  (ca (fX4_enter F d x1 (160 + s0) h) fun v3 h2 => (
  if v3 = 0 then
  (fX16_read_56 F d R_read x1 none h2)
  else
  (nn (gP h2 1602 this) fun a6 => (
  ca (R_read a6 x1 (-1) h2) fun v8 h7 => (
  fX16_read_56 F d R_read x1 v8 h7)))))
def fX16_read (F d : Nat) (R_read : Nat → Nat → Int32 → Hp → Option (Option Nat × Hp)) (this : Nat) (p0 : Nat) (p1 : Int32) (h : Hp) : Option (Option Nat × Hp) :=
  if p1 = (-1) then
  (fX16_read_13 F d R_read this p0 (gI h 1600 this) h)
  else
  (fX16_read_13 F d R_read this p0 p1 h)
set_option maxHeartbeats 4000000 in
theorem tX16_read_56 (l : Launch) (w : Wd) (hfl : l.stackTraces = false) (F d : Nat) (R_read : Nat → Nat → Int32 → Hp → Option (Option Nat × Hp)) (hR_read : ∀ {b : Nat} {p0 : Nat} {p1 : Int32} (k_b : [6, 7, 8, 9, 11, 12].contains (nd_Kd b) = true) (k_p0 : nd_Kd p0 = 3) {h : Hp} {r : Option Nat × Hp}, R_read b p0 p1 h = some r → nc_read l w b (1 + 8 * d) (30 + 400 * d) [vr (some b), vr (some p0), vi p1] h (.inl (some (vr r.1)), r.2)) (r : Option Nat × Hp) (x1 : Nat) (s0 : Option Nat) (k_x1 : nd_Kd x1 = 3) (ok_s0 : ∀ b, s0 = some b → [13].contains (nd_Kd b) = true) (h : Hp) (hf : fX16_read_56 F d R_read x1 s0 h = some r) : nd_V l w yX16_read cX16_read 5 (some (.object "NotationDesk$Part")) (3 + 8 * d) (66 + 400 * d) (.inl (some (vr r.1)), r.2) h 56 [(1, vr (some x1))] [vr s0] := by
  unfold fX16_read_56 at hf
  refine nd_astore [(4, vr s0), (1, vr (some x1))] dX16_read_56 (Nat.le_of_ble_eq_true rfl) rfl ?_
  refine nd_aload (j := 0) dX16_read_58 rfl ?_
  refine nd_ifnull (tgt := 75) dX16_read_60 (by decide) (fun e_a1 => ?_) (fun a1 e_a1 => ?_)
  · replace hf := ocN e_a1 hf
    subst e_a1
    refine nd_null dX16_read_75 ?_
    cases hf
    exact nd_aret (fun b e => by cases e) dX16_read_76
  · replace hf := ocS e_a1 hf
    have k_a1 : nd_Kd a1 = 13 := nd_c1 (ok_s0 a1 e_a1)
    subst e_a1
    refine nd_aload_n (j := 1) dX16_read_63 rfl rfl ?_
    replace hf := caE hf
    obtain ⟨v3, h2, e_h2, hf⟩ := hf
    refine nd_Vi [] (tX4_leave l w hfl F d k_x1 e_h2) rfl dX16_read_64 mw_X4_leave (Or.inl q1094) k_x1 rfl q1095 q1096 (by omega) (by omega) (Nat.le_of_ble_eq_true rfl) ?_
    refine nd_if_eq (tgt := 75) dX16_read_67 (by decide) (fun c4 => ?_) (fun c4 => ?_)
    · replace hf := ifp c4 hf
      refine nd_null dX16_read_75 ?_
      cases hf
      exact nd_aret (fun b e => by cases e) dX16_read_76
    · replace hf := ifn c4 hf
      refine nd_aload (j := 0) dX16_read_70 rfl ?_
      refine nd_goto (tgt := 76) dX16_read_72 (by decide) ?_
      cases hf
      exact nd_aret (fun b e => by cases e; exact okT13' (by rw [k_a1]; rfl)) dX16_read_76
set_option maxHeartbeats 4000000 in
theorem tX16_read_13 (l : Launch) (w : Wd) (hfl : l.stackTraces = false) (F d : Nat) (R_read : Nat → Nat → Int32 → Hp → Option (Option Nat × Hp)) (hR_read : ∀ {b : Nat} {p0 : Nat} {p1 : Int32} (k_b : [6, 7, 8, 9, 11, 12].contains (nd_Kd b) = true) (k_p0 : nd_Kd p0 = 3) {h : Hp} {r : Option Nat × Hp}, R_read b p0 p1 h = some r → nc_read l w b (1 + 8 * d) (30 + 400 * d) [vr (some b), vr (some p0), vi p1] h (.inl (some (vr r.1)), r.2)) (r : Option Nat × Hp) (this : Nat) (x1 : Nat) (s0 : Int32) (k_this : nd_Kd this = 12) (k_x1 : nd_Kd x1 = 3) (h : Hp) (hf : fX16_read_13 F d R_read this x1 s0 h = some r) : nd_V l w yX16_read cX16_read 5 (some (.object "NotationDesk$Part")) (3 + 8 * d) (66 + 400 * d) (.inl (some (vr r.1)), r.2) h 13 [(0, vr (some this)), (1, vr (some x1))] [vi s0] := by
  unfold fX16_read_13 at hf
  refine nd_istore_n [(3, vi s0), (0, vr (some this)), (1, vr (some x1))] dX16_read_13 rfl (Nat.le_of_ble_eq_true rfl) rfl ?_
  refine nd_aload_n (j := 1) dX16_read_14 rfl rfl ?_
  refine nd_getI (k := 1) dX16_read_15 k_this rfl (Nat.le_of_ble_eq_true rfl) (nd_flO q647) rfl ?_
  refine nd_if_ne (tgt := 31) dX16_read_18 (by decide) (fun c1 => ?_) (fun c1 => ?_)
  · replace hf := ifn c1 hf
    refine nd_aload_n (j := 2) dX16_read_31 rfl rfl ?_
    refine nd_sipush (v := 160) dX16_read_32 (by decide) ?_
    refine nd_iload_n (j := 0) dX16_read_35 rfl rfl ?_
    refine nd_iadd dX16_read_36 ?_
    replace hf := caE hf
    obtain ⟨v3, h2, e_h2, hf⟩ := hf
    refine nd_Vi [] (tX4_enter l w hfl F d k_x1 e_h2) rfl dX16_read_37 mw_X4_enter (Or.inl q1093) k_x1 rfl q1076 q1077 (by omega) (by omega) (Nat.le_of_ble_eq_true rfl) ?_
    refine nd_if_eq (tgt := 55) dX16_read_40 (by decide) (fun c4 => ?_) (fun c4 => ?_)
    · replace hf := ifp c4 hf
      refine nd_null dX16_read_55 ?_
      exact nd_loc [2] rfl (tX16_read_56 l w hfl F d R_read hR_read r _ _ k_x1 (fun b e => by cases e) _ hf)
    · replace hf := ifn c4 hf
      refine nd_aload_n (j := 1) dX16_read_43 rfl rfl ?_
      refine nd_getP (k := 2) dX16_read_44 k_this rfl (Nat.le_of_ble_eq_true rfl) (nd_flO q648) rfl (fun ok5 => ?_)
      replace hf := nnE hf
      obtain ⟨a6, e_a6, hf⟩ := hf
      refine nd_topr e_a6.symm ?_
      have k_a6 : [6, 7, 8, 9, 11, 12].contains (nd_Kd a6) = true := ok5 a6 e_a6
      refine nd_aload_n (j := 2) dX16_read_47 rfl rfl ?_
      refine nd_iconst (v := (-1)) dX16_read_48 (by decide) ?_
      replace hf := caE hf
      obtain ⟨v8, h7, e_h7, hf⟩ := hf
      refine nd_v_read [] (hR_read k_a6 k_x1 e_h7) rfl dX16_read_49 q1092 k_a6 (by omega) (by omega) (Nat.le_of_ble_eq_true rfl) (fun ok9 => ?_)
      have ok_v8 : ∀ b, v8 = some b → [13].contains (nd_Kd b) = true := fun b q => okT13 (ok9 b q)
      refine nd_goto (tgt := 56) dX16_read_52 (by decide) ?_
      exact nd_loc [2] rfl (tX16_read_56 l w hfl F d R_read hR_read r _ _ k_x1 ok_v8 _ hf)
  · replace hf := ifp c1 hf
    refine nd_aload_n (j := 1) dX16_read_21 rfl rfl ?_
    refine nd_getP (k := 2) dX16_read_22 k_this rfl (Nat.le_of_ble_eq_true rfl) (nd_flO q648) rfl (fun ok10 => ?_)
    replace hf := nnE hf
    obtain ⟨a11, e_a11, hf⟩ := hf
    refine nd_topr e_a11.symm ?_
    have k_a11 : [6, 7, 8, 9, 11, 12].contains (nd_Kd a11) = true := ok10 a11 e_a11
    refine nd_aload_n (j := 2) dX16_read_25 rfl rfl ?_
    refine nd_iload_n (j := 0) dX16_read_26 rfl rfl ?_
    replace hf := caE hf
    obtain ⟨v13, h12, e_h12, hf⟩ := hf
    refine nd_v_read [] (hR_read k_a11 k_x1 e_h12) rfl dX16_read_27 q1092 k_a11 (by omega) (by omega) (Nat.le_of_ble_eq_true rfl) (fun ok14 => ?_)
    have ok_v13 : ∀ b, v13 = some b → [13].contains (nd_Kd b) = true := fun b q => okT13 (ok14 b q)
    cases hf
    exact nd_aret (fun b e => okT13' (ok_v13 b e)) dX16_read_30
set_option maxHeartbeats 4000000 in
theorem tX16_read (l : Launch) (w : Wd) (hfl : l.stackTraces = false) (F d : Nat) (R_read : Nat → Nat → Int32 → Hp → Option (Option Nat × Hp)) (hR_read : ∀ {b : Nat} {p0 : Nat} {p1 : Int32} (k_b : [6, 7, 8, 9, 11, 12].contains (nd_Kd b) = true) (k_p0 : nd_Kd p0 = 3) {h : Hp} {r : Option Nat × Hp}, R_read b p0 p1 h = some r → nc_read l w b (1 + 8 * d) (30 + 400 * d) [vr (some b), vr (some p0), vi p1] h (.inl (some (vr r.1)), r.2)) {this : Nat} {p0 : Nat} {p1 : Int32} (k_this : nd_Kd this = 12) (k_p0 : nd_Kd p0 = 3) {h : Hp} {r : Option Nat × Hp} (hf : fX16_read F d R_read this p0 p1 h = some r) : nd_C l w yX16_read cX16_read 5 (some (.object "NotationDesk$Part")) (3 + 8 * d) (66 + 400 * d) [vr (some this), vr (some p0), vi p1] h (.inl (some (vr r.1)), r.2) := by
  refine nd_start (as := [vr (some this), vr (some p0), vi p1]) hfl (by decide) (Nat.le_of_ble_eq_true rfl) ?_
  unfold fX16_read at hf
  refine nd_eqL (L' := [(0, vr (some this)), (1, vr (some p0)), (2, vi p1)]) rfl ?_
  refine nd_iload_n (j := 2) dX16_read_0 rfl rfl ?_
  refine nd_iconst (v := (-1)) dX16_read_1 (by decide) ?_
  refine nd_icmp_ne (tgt := 12) dX16_read_2 (by decide) (fun c1 => ?_) (fun c1 => ?_)
  · replace hf := ifn c1 hf
    refine nd_iload_n (j := 2) dX16_read_12 rfl rfl ?_
    exact nd_loc [0, 1] rfl (tX16_read_13 l w hfl F d R_read hR_read r _ _ _ k_this k_p0 _ hf)
  · replace hf := ifp c1 hf
    refine nd_aload_n (j := 0) dX16_read_5 rfl rfl ?_
    refine nd_getI (k := 0) dX16_read_6 k_this rfl (Nat.le_of_ble_eq_true rfl) (nd_flO q646) rfl ?_
    refine nd_goto (tgt := 13) dX16_read_9 (by decide) ?_
    exact nd_loc [0, 1] rfl (tX16_read_13 l w hfl F d R_read hR_read r _ _ _ k_this k_p0 _ hf)
def fX16_unpack (F d : Nat) (R_unpack : Nat → Nat → Hp → Option (Option Nat × Hp)) (this : Nat) (p0 : Nat) (h : Hp) : Option (Option Nat × Hp) :=
  nn (gP h 1602 this) fun a2 => (
  ca (R_unpack a2 p0 h) fun v4 h3 => (
  some (v4, h3)))
set_option maxHeartbeats 4000000 in
theorem tX16_unpack (l : Launch) (w : Wd) (hfl : l.stackTraces = false) (F d : Nat) (R_unpack : Nat → Nat → Hp → Option (Option Nat × Hp)) (hR_unpack : ∀ {b : Nat} {p0 : Nat} (k_b : [6, 7, 8, 9, 11, 12].contains (nd_Kd b) = true) (k_p0 : nd_Kd p0 = 3) {h : Hp} {r : Option Nat × Hp}, R_unpack b p0 h = some r → nc_unpack l w b (1 + 8 * d) (30 + 400 * d) [vr (some b), vr (some p0)] h (.inl (some (vr r.1)), r.2)) {this : Nat} {p0 : Nat} (k_this : nd_Kd this = 12) (k_p0 : nd_Kd p0 = 3) {h : Hp} {r : Option Nat × Hp} (hf : fX16_unpack F d R_unpack this p0 h = some r) : nd_C l w yX16_unpack cX16_unpack 2 (some (.object "NotationDesk$Part")) (2 + 8 * d) (55 + 400 * d) [vr (some this), vr (some p0)] h (.inl (some (vr r.1)), r.2) := by
  refine nd_start (as := [vr (some this), vr (some p0)]) hfl (by decide) (Nat.le_of_ble_eq_true rfl) ?_
  unfold fX16_unpack at hf
  refine nd_eqL (L' := [(0, vr (some this)), (1, vr (some p0))]) rfl ?_
  refine nd_aload_n (j := 0) dX16_unpack_0 rfl rfl ?_
  refine nd_getP (k := 2) dX16_unpack_1 k_this rfl (Nat.le_of_ble_eq_true rfl) (nd_flO q648) rfl (fun ok1 => ?_)
  replace hf := nnE hf
  obtain ⟨a2, e_a2, hf⟩ := hf
  refine nd_topr e_a2.symm ?_
  have k_a2 : [6, 7, 8, 9, 11, 12].contains (nd_Kd a2) = true := ok1 a2 e_a2
  refine nd_aload_n (j := 1) dX16_unpack_4 rfl rfl ?_
  replace hf := caE hf
  obtain ⟨v4, h3, e_h3, hf⟩ := hf
  refine nd_v_unpack [] (hR_unpack k_a2 k_p0 e_h3) rfl dX16_unpack_5 q1005 k_a2 (by omega) (by omega) (Nat.le_of_ble_eq_true rfl) (fun ok5 => ?_)
  have ok_v4 : ∀ b, v4 = some b → [13].contains (nd_Kd b) = true := fun b q => okT13 (ok5 b q)
  cases hf
  exact nd_aret (fun b e => okT13' (ok_v4 b e)) dX16_unpack_8
def fX16_write_59 (F d : Nat) (R_write : Nat → Nat → Nat → Int32 → Hp → Option (Hp)) (s0 : Nat) (s1 : Nat) (s2 : Nat) (s3 : Int32) (h : Hp) : Option (Hp) :=
  cv (R_write s0 s1 s2 s3 h) fun h1 => (
  some h1)
def fX16_write_40 (F d : Nat) (R_write : Nat → Nat → Nat → Int32 → Hp → Option (Hp)) (this : Nat) (x1 : Nat) (x2 : Nat) (x4 : Int32) (h : Hp) : Option (Hp) :=
  nn (gP h 1602 this) fun a2 => (
  if (gI h 1601 this) = 0 then
  (fX16_write_59 F d R_write a2 x1 x2 x4 h)
  else
  (fX16_write_59 F d R_write a2 x1 x2 (-1) h))
def fX16_write_13 (F d : Nat) (R_write : Nat → Nat → Nat → Int32 → Hp → Option (Hp)) (this : Nat) (x1 : Nat) (x2 : Nat) (s0 : Int32) (h : Hp) : Option (Hp) :=
  if (gI h 1601 this) = 0 then
  (fX16_write_40 F d R_write this x1 x2 s0 h)
  else
  (nn (gP h 1602 this) fun a3 => (
  ca (v_size F d a3 x1 h) fun v5 h4 => (
  cv (fX5_header F d x2 (160 + s0) v5 h4) fun h6 => (
  fX16_write_40 F d R_write this x1 x2 s0 h6))))
def fX16_write (F d : Nat) (R_write : Nat → Nat → Nat → Int32 → Hp → Option (Hp)) (this : Nat) (p0 : Nat) (p1 : Nat) (p2 : Int32) (h : Hp) : Option (Hp) :=
  if p2 = (-1) then
  (fX16_write_13 F d R_write this p0 p1 (gI h 1600 this) h)
  else
  (fX16_write_13 F d R_write this p0 p1 p2 h)
set_option maxHeartbeats 4000000 in
theorem tX16_write_59 (l : Launch) (w : Wd) (hfl : l.stackTraces = false) (F d : Nat) (R_write : Nat → Nat → Nat → Int32 → Hp → Option (Hp)) (hR_write : ∀ {b : Nat} {p0 : Nat} {p1 : Nat} {p2 : Int32} (k_b : [6, 7, 8, 9, 11, 12].contains (nd_Kd b) = true) (k_p0 : nd_Kd p0 = 13) (k_p1 : nd_Kd p1 = 4) {h : Hp} {r : Hp}, R_write b p0 p1 p2 h = some r → nc_write l w b (1 + 8 * d) (30 + 400 * d) [vr (some b), vr (some p0), vr (some p1), vi p2] h (.inl none, r)) (r : Hp) (s0 : Nat) (s1 : Nat) (s2 : Nat) (s3 : Int32) (k_s0 : [6, 7, 8, 9, 11, 12].contains (nd_Kd s0) = true) (k_s1 : nd_Kd s1 = 13) (k_s2 : nd_Kd s2 = 4) (h : Hp) (hf : fX16_write_59 F d R_write s0 s1 s2 s3 h = some r) : nd_V l w yX16_write cX16_write 5 none (3 + 8 * d) (66 + 400 * d) (.inl none, r) h 59 [] [vi s3, vr (some s2), vr (some s1), vr (some s0)] := by
  unfold fX16_write_59 at hf
  replace hf := cvE hf
  obtain ⟨h1, e_h1, hf⟩ := hf
  refine nd_v_write [] (hR_write k_s0 k_s1 k_s2 e_h1) rfl dX16_write_59 q1214 k_s0 (by omega) (by omega) (Nat.le_of_ble_eq_true rfl) ?_
  cases hf
  exact nd_vret dX16_write_62
set_option maxHeartbeats 4000000 in
theorem tX16_write_40 (l : Launch) (w : Wd) (hfl : l.stackTraces = false) (F d : Nat) (R_write : Nat → Nat → Nat → Int32 → Hp → Option (Hp)) (hR_write : ∀ {b : Nat} {p0 : Nat} {p1 : Nat} {p2 : Int32} (k_b : [6, 7, 8, 9, 11, 12].contains (nd_Kd b) = true) (k_p0 : nd_Kd p0 = 13) (k_p1 : nd_Kd p1 = 4) {h : Hp} {r : Hp}, R_write b p0 p1 p2 h = some r → nc_write l w b (1 + 8 * d) (30 + 400 * d) [vr (some b), vr (some p0), vr (some p1), vi p2] h (.inl none, r)) (r : Hp) (this : Nat) (x1 : Nat) (x2 : Nat) (x4 : Int32) (k_this : nd_Kd this = 12) (k_x1 : nd_Kd x1 = 13) (k_x2 : nd_Kd x2 = 4) (h : Hp) (hf : fX16_write_40 F d R_write this x1 x2 x4 h = some r) : nd_V l w yX16_write cX16_write 5 none (3 + 8 * d) (66 + 400 * d) (.inl none, r) h 40 [(0, vr (some this)), (1, vr (some x1)), (2, vr (some x2)), (4, vi x4)] [] := by
  unfold fX16_write_40 at hf
  refine nd_aload_n (j := 0) dX16_write_40 rfl rfl ?_
  refine nd_getP (k := 2) dX16_write_41 k_this rfl (Nat.le_of_ble_eq_true rfl) (nd_flO q648) rfl (fun ok1 => ?_)
  replace hf := nnE hf
  obtain ⟨a2, e_a2, hf⟩ := hf
  refine nd_topr e_a2.symm ?_
  have k_a2 : [6, 7, 8, 9, 11, 12].contains (nd_Kd a2) = true := ok1 a2 e_a2
  refine nd_aload_n (j := 1) dX16_write_44 rfl rfl ?_
  refine nd_aload_n (j := 2) dX16_write_45 rfl rfl ?_
  refine nd_aload_n (j := 0) dX16_write_46 rfl rfl ?_
  refine nd_getI (k := 1) dX16_write_47 k_this rfl (Nat.le_of_ble_eq_true rfl) (nd_flO q647) rfl ?_
  refine nd_if_eq (tgt := 57) dX16_write_50 (by decide) (fun c3 => ?_) (fun c3 => ?_)
  · replace hf := ifp c3 hf
    refine nd_iload (j := 3) dX16_write_57 rfl ?_
    exact nd_loc [] rfl (tX16_write_59 l w hfl F d R_write hR_write r _ _ _ _ k_a2 k_x1 k_x2 _ hf)
  · replace hf := ifn c3 hf
    refine nd_iconst (v := (-1)) dX16_write_53 (by decide) ?_
    refine nd_goto (tgt := 59) dX16_write_54 (by decide) ?_
    exact nd_loc [] rfl (tX16_write_59 l w hfl F d R_write hR_write r _ _ _ _ k_a2 k_x1 k_x2 _ hf)
set_option maxHeartbeats 4000000 in
theorem tX16_write_13 (l : Launch) (w : Wd) (hfl : l.stackTraces = false) (F d : Nat) (R_write : Nat → Nat → Nat → Int32 → Hp → Option (Hp)) (hR_write : ∀ {b : Nat} {p0 : Nat} {p1 : Nat} {p2 : Int32} (k_b : [6, 7, 8, 9, 11, 12].contains (nd_Kd b) = true) (k_p0 : nd_Kd p0 = 13) (k_p1 : nd_Kd p1 = 4) {h : Hp} {r : Hp}, R_write b p0 p1 p2 h = some r → nc_write l w b (1 + 8 * d) (30 + 400 * d) [vr (some b), vr (some p0), vr (some p1), vi p2] h (.inl none, r)) (r : Hp) (this : Nat) (x1 : Nat) (x2 : Nat) (s0 : Int32) (k_this : nd_Kd this = 12) (k_x1 : nd_Kd x1 = 13) (k_x2 : nd_Kd x2 = 4) (h : Hp) (hf : fX16_write_13 F d R_write this x1 x2 s0 h = some r) : nd_V l w yX16_write cX16_write 5 none (3 + 8 * d) (66 + 400 * d) (.inl none, r) h 13 [(0, vr (some this)), (1, vr (some x1)), (2, vr (some x2))] [vi s0] := by
  unfold fX16_write_13 at hf
  refine nd_istore [(4, vi s0), (0, vr (some this)), (1, vr (some x1)), (2, vr (some x2))] dX16_write_13 (Nat.le_of_ble_eq_true rfl) rfl ?_
  refine nd_aload_n (j := 1) dX16_write_15 rfl rfl ?_
  refine nd_getI (k := 1) dX16_write_16 k_this rfl (Nat.le_of_ble_eq_true rfl) (nd_flO q647) rfl ?_
  refine nd_if_eq (tgt := 40) dX16_write_19 (by decide) (fun c1 => ?_) (fun c1 => ?_)
  · replace hf := ifp c1 hf
    exact nd_loc [1, 2, 3, 0] rfl (tX16_write_40 l w hfl F d R_write hR_write r _ _ _ _ k_this k_x1 k_x2 _ hf)
  · replace hf := ifn c1 hf
    refine nd_aload_n (j := 3) dX16_write_22 rfl rfl ?_
    refine nd_sipush (v := 160) dX16_write_23 (by decide) ?_
    refine nd_iload (j := 0) dX16_write_26 rfl ?_
    refine nd_iadd dX16_write_28 ?_
    refine nd_aload_n (j := 1) dX16_write_29 rfl rfl ?_
    refine nd_getP (k := 2) dX16_write_30 k_this rfl (Nat.le_of_ble_eq_true rfl) (nd_flO q648) rfl (fun ok2 => ?_)
    replace hf := nnE hf
    obtain ⟨a3, e_a3, hf⟩ := hf
    refine nd_topr e_a3.symm ?_
    have k_a3 : [6, 7, 8, 9, 11, 12].contains (nd_Kd a3) = true := ok2 a3 e_a3
    refine nd_aload_n (j := 2) dX16_write_33 rfl rfl ?_
    replace hf := caE hf
    obtain ⟨v5, h4, e_h4, hf⟩ := hf
    refine nd_v_size [vi (160 + s0), vr (some x2)] (tv_size l w hfl F d k_a3 k_x1 e_h4) rfl dX16_write_34 q1197 k_a3 (by omega) (by omega) (Nat.le_of_ble_eq_true rfl) ?_
    replace hf := cvE hf
    obtain ⟨h6, e_h6, hf⟩ := hf
    refine nd_Vv [] (tX5_header l w hfl F d k_x2 e_h6) rfl dX16_write_37 mw_X5_header (Or.inl q1213) k_x2 rfl q1132 q1133 (by omega) (by omega) (Nat.le_of_ble_eq_true rfl) ?_
    exact nd_loc [1, 2, 3, 0] rfl (tX16_write_40 l w hfl F d R_write hR_write r _ _ _ _ k_this k_x1 k_x2 _ hf)
set_option maxHeartbeats 4000000 in
theorem tX16_write (l : Launch) (w : Wd) (hfl : l.stackTraces = false) (F d : Nat) (R_write : Nat → Nat → Nat → Int32 → Hp → Option (Hp)) (hR_write : ∀ {b : Nat} {p0 : Nat} {p1 : Nat} {p2 : Int32} (k_b : [6, 7, 8, 9, 11, 12].contains (nd_Kd b) = true) (k_p0 : nd_Kd p0 = 13) (k_p1 : nd_Kd p1 = 4) {h : Hp} {r : Hp}, R_write b p0 p1 p2 h = some r → nc_write l w b (1 + 8 * d) (30 + 400 * d) [vr (some b), vr (some p0), vr (some p1), vi p2] h (.inl none, r)) {this : Nat} {p0 : Nat} {p1 : Nat} {p2 : Int32} (k_this : nd_Kd this = 12) (k_p0 : nd_Kd p0 = 13) (k_p1 : nd_Kd p1 = 4) {h : Hp} {r : Hp} (hf : fX16_write F d R_write this p0 p1 p2 h = some r) : nd_C l w yX16_write cX16_write 5 none (3 + 8 * d) (66 + 400 * d) [vr (some this), vr (some p0), vr (some p1), vi p2] h (.inl none, r) := by
  refine nd_start (as := [vr (some this), vr (some p0), vr (some p1), vi p2]) hfl (by decide) (Nat.le_of_ble_eq_true rfl) ?_
  unfold fX16_write at hf
  refine nd_eqL (L' := [(0, vr (some this)), (1, vr (some p0)), (2, vr (some p1)), (3, vi p2)]) rfl ?_
  refine nd_iload_n (j := 3) dX16_write_0 rfl rfl ?_
  refine nd_iconst (v := (-1)) dX16_write_1 (by decide) ?_
  refine nd_icmp_ne (tgt := 12) dX16_write_2 (by decide) (fun c1 => ?_) (fun c1 => ?_)
  · replace hf := ifn c1 hf
    refine nd_iload_n (j := 3) dX16_write_12 rfl rfl ?_
    exact nd_loc [0, 1, 2] rfl (tX16_write_13 l w hfl F d R_write hR_write r _ _ _ _ k_this k_p0 k_p1 _ hf)
  · replace hf := ifp c1 hf
    refine nd_aload_n (j := 0) dX16_write_5 rfl rfl ?_
    refine nd_getI (k := 0) dX16_write_6 k_this rfl (Nat.le_of_ble_eq_true rfl) (nd_flO q646) rfl ?_
    refine nd_goto (tgt := 13) dX16_write_9 (by decide) ?_
    exact nd_loc [0, 1, 2] rfl (tX16_write_13 l w hfl F d R_write hR_write r _ _ _ _ k_this k_p0 k_p1 _ hf)
def fX5_init (F d : Nat) (this : Nat) (h : Hp) : Option (Hp) :=
  bn 311 fun n3 => (
  ck (freA h n3 20 2600) (
  bn (nw h n3 2600) fun h2 => (
  bn (sP h2 500 this (some n3)) fun h4 => (
  some h4))))
set_option maxHeartbeats 4000000 in
theorem tX5_init (l : Launch) (w : Wd) (hfl : l.stackTraces = false) (F d : Nat) {this : Nat} (k_this : nd_Kd this = 4) {h : Hp} {r : Hp} (hf : fX5_init F d this h = some r) : nd_C l w yX5_init cX5_init 1 none 1 40 [vr (some this)] h (.inl none, r) := by
  refine nd_start (as := [vr (some this)]) hfl (by decide) (Nat.le_of_ble_eq_true rfl) ?_
  unfold fX5_init at hf
  refine nd_eqL (L' := [(0, vr (some this))]) rfl ?_
  refine nd_aload_n (j := 0) dX5_init_0 rfl rfl ?_
  refine nd_obj dX5_init_1 q269 q119 q120 (Nat.le_of_ble_eq_true rfl) (Nat.le_of_ble_eq_true rfl) ?_
  refine nd_aload_n (j := 0) dX5_init_4 rfl rfl ?_
  refine nd_sipush (v := 2600) dX5_init_5 (by decide) ?_
  replace hf := bnE hf
  obtain ⟨n3, e_n3, hf⟩ := hf
  replace hf := ckE hf
  obtain ⟨c1, hf⟩ := hf
  refine nd_newI (n := n3) (z := 2600) dX5_init_8 (by decide +kernel) (by decide) (Nat.le_of_ble_eq_true rfl) c1 ?_
  replace hf := bnE hf
  obtain ⟨h2, e_h2, hf⟩ := hf
  refine nd_hp e_h2 ?_
  have k_n3 : nd_Kd n3 = 20 := (freAE c1).2.1
  refine nd_putF (k := 0) (f := 500) dX5_init_10 k_this rfl (Nat.le_of_ble_eq_true rfl) q270 rfl rfl rfl rfl rfl (fun b e => by cases e; rw [k_n3]; rfl) ?_
  replace hf := bnE hf
  obtain ⟨h4, e_h4, hf⟩ := hf
  refine nd_hp e_h4 ?_
  cases hf
  exact nd_vret dX5_init_13
def fX5_begin (F d : Nat) (this : Nat) (p0 : Nat) (h : Hp) : Option (Hp) :=
  bn (sI h 501 this 0) fun h1 => (
  bn (sP h1 502 this (some p0)) fun h2 => (
  some h2))
set_option maxHeartbeats 4000000 in
theorem tX5_begin (l : Launch) (w : Wd) (hfl : l.stackTraces = false) (F d : Nat) {this : Nat} {p0 : Nat} (k_this : nd_Kd this = 4) (k_p0 : nd_Kd p0 = 2) {h : Hp} {r : Hp} (hf : fX5_begin F d this p0 h = some r) : nd_C l w yX5_begin cX5_begin 2 none 0 0 [vr (some this), vr (some p0)] h (.inl none, r) := by
  refine nd_start (as := [vr (some this), vr (some p0)]) hfl (by decide) (Nat.le_of_ble_eq_true rfl) ?_
  unfold fX5_begin at hf
  refine nd_eqL (L' := [(0, vr (some this)), (1, vr (some p0))]) rfl ?_
  refine nd_aload_n (j := 0) dX5_begin_0 rfl rfl ?_
  refine nd_iconst (v := 0) dX5_begin_1 (by decide) ?_
  refine nd_putN (k := 1) dX5_begin_2 k_this rfl (Nat.le_of_ble_eq_true rfl) (nd_flO q272) rfl rfl rfl ?_
  replace hf := bnE hf
  obtain ⟨h1, e_h1, hf⟩ := hf
  refine nd_hp e_h1 ?_
  refine nd_aload_n (j := 0) dX5_begin_5 rfl rfl ?_
  refine nd_aload_n (j := 1) dX5_begin_6 rfl rfl ?_
  refine nd_putP (k := 2) (f := 502) dX5_begin_7 k_this rfl (Nat.le_of_ble_eq_true rfl) (nd_flO q274) rfl rfl rfl rfl (fun b e => by cases e; rw [k_p0]; rfl) ?_
  replace hf := bnE hf
  obtain ⟨h2, e_h2, hf⟩ := hf
  refine nd_hp e_h2 ?_
  cases hf
  exact nd_vret dX5_begin_10
def fX1_init (F d : Nat) (this : Nat) (h : Hp) : Option (Hp) :=
  bn 200 fun n3 => (
  ck (fre h n3 1) (
  bn (nw h n3 15) fun h2 => (
  cv (fX2_init F d n3 h2) fun h4 => (
  bn (sP h4 100 this (some n3)) fun h6 => (
  bn 101 fun n9 => (
  ck (freA h6 n9 20 120) (
  bn (nw h6 n9 120) fun h8 => (
  bn (sP h8 102 this (some n9)) fun h10 => (
  bn 1000 fun n13 => (
  ck (fre h10 n13 2) (
  bn (nw h10 n13 6) fun h12 => (
  cv (fX3_init F d n13 h12) fun h14 => (
  bn (sP h14 104 this (some n13)) fun h16 => (
  bn 2000 fun n19 => (
  ck (fre h16 n19 2) (
  bn (nw h16 n19 6) fun h18 => (
  cv (fX3_init F d n19 h18) fun h20 => (
  bn (sP h20 105 this (some n19)) fun h22 => (
  bn 300 fun n25 => (
  ck (fre h22 n25 3) (
  bn (nw h22 n25 8) fun h24 => (
  cv (fX4_init F d n25 h24) fun h26 => (
  bn (sP h26 106 this (some n25)) fun h28 => (
  bn 310 fun n31 => (
  ck (fre h28 n31 4) (
  bn (nw h28 n31 3) fun h30 => (
  cv (fX5_init F d n31 h30) fun h32 => (
  bn (sP h32 107 this (some n31)) fun h34 => (
  bn 102 fun n37 => (
  ck (freA h34 n37 24 8) (
  bn (nw h34 n37 8) fun h36 => (
  bn (sP h36 108 this (some n37)) fun h38 => (
  bn 103 fun n41 => (
  ck (freA h38 n41 20 8) (
  bn (nw h38 n41 8) fun h40 => (
  bn (sP h40 109 this (some n41)) fun h42 => (
  bn 104 fun n45 => (
  ck (freA h42 n45 20 8) (
  bn (nw h42 n45 8) fun h44 => (
  bn (sP h44 110 this (some n45)) fun h46 => (
  bn 105 fun n49 => (
  ck (freA h46 n49 22 256) (
  bn (nw h46 n49 256) fun h48 => (
  bn (sP h48 111 this (some n49)) fun h50 => (
  some h50)))))))))))))))))))))))))))))))))))))))))))))
set_option maxHeartbeats 4000000 in
theorem tX1_init (l : Launch) (w : Wd) (hfl : l.stackTraces = false) (F d : Nat) {this : Nat} (k_this : nd_Kd this = 0) {h : Hp} {r : Hp} (hf : fX1_init F d this h = some r) : nd_C l w yX1_init cX1_init 1 none 2 60 [vr (some this)] h (.inl none, r) := by
  refine nd_start (as := [vr (some this)]) hfl (by decide) (Nat.le_of_ble_eq_true rfl) ?_
  unfold fX1_init at hf
  refine nd_eqL (L' := [(0, vr (some this))]) rfl ?_
  refine nd_aload_n (j := 0) dX1_init_0 rfl rfl ?_
  refine nd_obj dX1_init_1 q118 q119 q120 (Nat.le_of_ble_eq_true rfl) (Nat.le_of_ble_eq_true rfl) ?_
  refine nd_aload_n (j := 0) dX1_init_4 rfl rfl ?_
  replace hf := bnE hf
  obtain ⟨n3, e_n3, hf⟩ := hf
  replace hf := ckE hf
  obtain ⟨c1, hf⟩ := hf
  refine nd_newO (ci := 1) (n := n3) dX1_init_5 rfl q121 q122 q87 c1 ?_
  replace hf := bnE hf
  obtain ⟨h2, e_h2, hf⟩ := hf
  refine nd_hp e_h2 ?_
  have k_n3 : nd_Kd n3 = 1 := (freE c1).2
  refine nd_dup dX1_init_8 rfl ?_
  replace hf := cvE hf
  obtain ⟨h4, e_h4, hf⟩ := hf
  refine nd_Iv [vr (some n3), vr (some this)] (tX2_init l w hfl F d k_n3 e_h4) rfl dX1_init_9 mw_X2_init (Or.inr ⟨_, q123⟩) q124 rfl (by omega) (by omega) (Nat.le_of_ble_eq_true rfl) ?_
  refine nd_putF (k := 0) (f := 100) dX1_init_12 k_this rfl (Nat.le_of_ble_eq_true rfl) q284 rfl rfl rfl rfl rfl (fun b e => by cases e; rw [k_n3]; rfl) ?_
  replace hf := bnE hf
  obtain ⟨h6, e_h6, hf⟩ := hf
  refine nd_hp e_h6 ?_
  refine nd_aload_n (j := 0) dX1_init_15 rfl rfl ?_
  refine nd_bipush (v := 120) dX1_init_16 (by decide) ?_
  replace hf := bnE hf
  obtain ⟨n9, e_n9, hf⟩ := hf
  replace hf := ckE hf
  obtain ⟨c7, hf⟩ := hf
  refine nd_newI (n := n9) (z := 120) dX1_init_18 (by decide +kernel) (by decide) (Nat.le_of_ble_eq_true rfl) c7 ?_
  replace hf := bnE hf
  obtain ⟨h8, e_h8, hf⟩ := hf
  refine nd_hp e_h8 ?_
  have k_n9 : nd_Kd n9 = 20 := (freAE c7).2.1
  refine nd_putF (k := 2) (f := 102) dX1_init_20 k_this rfl (Nat.le_of_ble_eq_true rfl) q286 rfl rfl rfl rfl rfl (fun b e => by cases e; rw [k_n9]; rfl) ?_
  replace hf := bnE hf
  obtain ⟨h10, e_h10, hf⟩ := hf
  refine nd_hp e_h10 ?_
  refine nd_aload_n (j := 0) dX1_init_23 rfl rfl ?_
  replace hf := bnE hf
  obtain ⟨n13, e_n13, hf⟩ := hf
  replace hf := ckE hf
  obtain ⟨c11, hf⟩ := hf
  refine nd_newO (ci := 2) (n := n13) dX1_init_24 rfl q193 q194 q88 c11 ?_
  replace hf := bnE hf
  obtain ⟨h12, e_h12, hf⟩ := hf
  refine nd_hp e_h12 ?_
  have k_n13 : nd_Kd n13 = 2 := (freE c11).2
  refine nd_dup dX1_init_27 rfl ?_
  replace hf := cvE hf
  obtain ⟨h14, e_h14, hf⟩ := hf
  refine nd_Iv [vr (some n13), vr (some this)] (tX3_init l w hfl F d k_n13 e_h14) rfl dX1_init_28 mw_X3_init (Or.inr ⟨_, q195⟩) q196 rfl (by omega) (by omega) (Nat.le_of_ble_eq_true rfl) ?_
  refine nd_putP (k := 4) (f := 104) dX1_init_31 k_this rfl (Nat.le_of_ble_eq_true rfl) (nd_flO q288) rfl rfl rfl rfl (fun b e => by cases e; rw [k_n13]; rfl) ?_
  replace hf := bnE hf
  obtain ⟨h16, e_h16, hf⟩ := hf
  refine nd_hp e_h16 ?_
  refine nd_aload_n (j := 0) dX1_init_34 rfl rfl ?_
  replace hf := bnE hf
  obtain ⟨n19, e_n19, hf⟩ := hf
  replace hf := ckE hf
  obtain ⟨c17, hf⟩ := hf
  refine nd_newO (ci := 2) (n := n19) dX1_init_35 rfl q193 q194 q88 c17 ?_
  replace hf := bnE hf
  obtain ⟨h18, e_h18, hf⟩ := hf
  refine nd_hp e_h18 ?_
  have k_n19 : nd_Kd n19 = 2 := (freE c17).2
  refine nd_dup dX1_init_38 rfl ?_
  replace hf := cvE hf
  obtain ⟨h20, e_h20, hf⟩ := hf
  refine nd_Iv [vr (some n19), vr (some this)] (tX3_init l w hfl F d k_n19 e_h20) rfl dX1_init_39 mw_X3_init (Or.inr ⟨_, q195⟩) q196 rfl (by omega) (by omega) (Nat.le_of_ble_eq_true rfl) ?_
  refine nd_putP (k := 5) (f := 105) dX1_init_42 k_this rfl (Nat.le_of_ble_eq_true rfl) (nd_flO q289) rfl rfl rfl rfl (fun b e => by cases e; rw [k_n19]; rfl) ?_
  replace hf := bnE hf
  obtain ⟨h22, e_h22, hf⟩ := hf
  refine nd_hp e_h22 ?_
  refine nd_aload_n (j := 0) dX1_init_45 rfl rfl ?_
  replace hf := bnE hf
  obtain ⟨n25, e_n25, hf⟩ := hf
  replace hf := ckE hf
  obtain ⟨c23, hf⟩ := hf
  refine nd_newO (ci := 3) (n := n25) dX1_init_46 rfl q225 q226 q89 c23 ?_
  replace hf := bnE hf
  obtain ⟨h24, e_h24, hf⟩ := hf
  refine nd_hp e_h24 ?_
  have k_n25 : nd_Kd n25 = 3 := (freE c23).2
  refine nd_dup dX1_init_49 rfl ?_
  replace hf := cvE hf
  obtain ⟨h26, e_h26, hf⟩ := hf
  refine nd_Iv [vr (some n25), vr (some this)] (tX4_init l w hfl F d k_n25 e_h26) rfl dX1_init_50 mw_X4_init (Or.inr ⟨_, q227⟩) q228 rfl (by omega) (by omega) (Nat.le_of_ble_eq_true rfl) ?_
  refine nd_putF (k := 6) (f := 106) dX1_init_53 k_this rfl (Nat.le_of_ble_eq_true rfl) q290 rfl rfl rfl rfl rfl (fun b e => by cases e; rw [k_n25]; rfl) ?_
  replace hf := bnE hf
  obtain ⟨h28, e_h28, hf⟩ := hf
  refine nd_hp e_h28 ?_
  refine nd_aload_n (j := 0) dX1_init_56 rfl rfl ?_
  replace hf := bnE hf
  obtain ⟨n31, e_n31, hf⟩ := hf
  replace hf := ckE hf
  obtain ⟨c29, hf⟩ := hf
  refine nd_newO (ci := 4) (n := n31) dX1_init_57 rfl q264 q265 q90 c29 ?_
  replace hf := bnE hf
  obtain ⟨h30, e_h30, hf⟩ := hf
  refine nd_hp e_h30 ?_
  have k_n31 : nd_Kd n31 = 4 := (freE c29).2
  refine nd_dup dX1_init_60 rfl ?_
  replace hf := cvE hf
  obtain ⟨h32, e_h32, hf⟩ := hf
  refine nd_Iv [vr (some n31), vr (some this)] (tX5_init l w hfl F d k_n31 e_h32) rfl dX1_init_61 mw_X5_init (Or.inr ⟨_, q266⟩) q267 rfl (by omega) (by omega) (Nat.le_of_ble_eq_true rfl) ?_
  refine nd_putF (k := 7) (f := 107) dX1_init_64 k_this rfl (Nat.le_of_ble_eq_true rfl) q291 rfl rfl rfl rfl rfl (fun b e => by cases e; rw [k_n31]; rfl) ?_
  replace hf := bnE hf
  obtain ⟨h34, e_h34, hf⟩ := hf
  refine nd_hp e_h34 ?_
  refine nd_aload_n (j := 0) dX1_init_67 rfl rfl ?_
  refine nd_bipush (v := 8) dX1_init_68 (by decide) ?_
  replace hf := bnE hf
  obtain ⟨n37, e_n37, hf⟩ := hf
  replace hf := ckE hf
  obtain ⟨c35, hf⟩ := hf
  refine nd_newR (n := n37) (z := 8) (t := 4) (ka := 24) dX1_init_70 q283 q128 (by decide) rfl (fun _ => rfl) (by decide +kernel) (by decide) (Nat.le_of_ble_eq_true rfl) c35 ?_
  replace hf := bnE hf
  obtain ⟨h36, e_h36, hf⟩ := hf
  refine nd_hp e_h36 ?_
  have k_n37 : nd_Kd n37 = 24 := (freAE c35).2.1
  refine nd_putF (k := 8) (f := 108) dX1_init_73 k_this rfl (Nat.le_of_ble_eq_true rfl) q292 rfl rfl rfl rfl rfl (fun b e => by cases e; rw [k_n37]; rfl) ?_
  replace hf := bnE hf
  obtain ⟨h38, e_h38, hf⟩ := hf
  refine nd_hp e_h38 ?_
  refine nd_aload_n (j := 0) dX1_init_76 rfl rfl ?_
  refine nd_bipush (v := 8) dX1_init_77 (by decide) ?_
  replace hf := bnE hf
  obtain ⟨n41, e_n41, hf⟩ := hf
  replace hf := ckE hf
  obtain ⟨c39, hf⟩ := hf
  refine nd_newI (n := n41) (z := 8) dX1_init_79 (by decide +kernel) (by decide) (Nat.le_of_ble_eq_true rfl) c39 ?_
  replace hf := bnE hf
  obtain ⟨h40, e_h40, hf⟩ := hf
  refine nd_hp e_h40 ?_
  have k_n41 : nd_Kd n41 = 20 := (freAE c39).2.1
  refine nd_putF (k := 9) (f := 109) dX1_init_81 k_this rfl (Nat.le_of_ble_eq_true rfl) q293 rfl rfl rfl rfl rfl (fun b e => by cases e; rw [k_n41]; rfl) ?_
  replace hf := bnE hf
  obtain ⟨h42, e_h42, hf⟩ := hf
  refine nd_hp e_h42 ?_
  refine nd_aload_n (j := 0) dX1_init_84 rfl rfl ?_
  refine nd_bipush (v := 8) dX1_init_85 (by decide) ?_
  replace hf := bnE hf
  obtain ⟨n45, e_n45, hf⟩ := hf
  replace hf := ckE hf
  obtain ⟨c43, hf⟩ := hf
  refine nd_newI (n := n45) (z := 8) dX1_init_87 (by decide +kernel) (by decide) (Nat.le_of_ble_eq_true rfl) c43 ?_
  replace hf := bnE hf
  obtain ⟨h44, e_h44, hf⟩ := hf
  refine nd_hp e_h44 ?_
  have k_n45 : nd_Kd n45 = 20 := (freAE c43).2.1
  refine nd_putF (k := 10) (f := 110) dX1_init_89 k_this rfl (Nat.le_of_ble_eq_true rfl) q294 rfl rfl rfl rfl rfl (fun b e => by cases e; rw [k_n45]; rfl) ?_
  replace hf := bnE hf
  obtain ⟨h46, e_h46, hf⟩ := hf
  refine nd_hp e_h46 ?_
  refine nd_aload_n (j := 0) dX1_init_92 rfl rfl ?_
  refine nd_sipush (v := 256) dX1_init_93 (by decide) ?_
  replace hf := bnE hf
  obtain ⟨n49, e_n49, hf⟩ := hf
  replace hf := ckE hf
  obtain ⟨c47, hf⟩ := hf
  refine nd_newZ (n := n49) (z := 256) dX1_init_96 (by decide +kernel) (by decide) (Nat.le_of_ble_eq_true rfl) c47 ?_
  replace hf := bnE hf
  obtain ⟨h48, e_h48, hf⟩ := hf
  refine nd_hp e_h48 ?_
  have k_n49 : nd_Kd n49 = 22 := (freAE c47).2.1
  refine nd_putF (k := 11) (f := 111) dX1_init_98 k_this rfl (Nat.le_of_ble_eq_true rfl) q295 rfl rfl rfl rfl rfl (fun b e => by cases e; rw [k_n49]; rfl) ?_
  replace hf := bnE hf
  obtain ⟨h50, e_h50, hf⟩ := hf
  refine nd_hp e_h50 ?_
  cases hf
  exact nd_vret dX1_init_101
def fX1_at (F d : Nat) (this : Nat) (p0 : Int32) (h : Hp) : Option ((Int32 ⊕ Nat) × Hp) :=
  ca (fX1_outside F d p0 (-1) ((gI h 103 this) - 1) h) fun v2 h1 => (
  if v2 = 0 then
  (if 0 ≤ p0 then
  (nn (gP h1 102 this) fun a6 => (
  ck (inb p0 (nd_Ln a6)) (
  some (.inl (gA h1 a6 (Int32.toNatClampNeg p0)), h1))))
  else
  (some (.inl (gI h1 103 this), h1)))
  else
  (some (.inr 4, nx h1 6)))
set_option maxHeartbeats 4000000 in
theorem tX1_at (l : Launch) (w : Wd) (hfl : l.stackTraces = false) (F d : Nat) {this : Nat} {p0 : Int32} (k_this : nd_Kd this = 0) {h : Hp} {r : (Int32 ⊕ Nat) × Hp} (hf : fX1_at F d this p0 h = some r) : nd_C l w yX1_at cX1_at 2 (some .int) 6 100 [vr (some this), vi p0] h (rxi r) := by
  refine nd_start (as := [vr (some this), vi p0]) hfl (by decide) (Nat.le_of_ble_eq_true rfl) ?_
  unfold fX1_at at hf
  refine nd_eqL (L' := [(0, vr (some this)), (1, vi p0)]) rfl ?_
  refine nd_iload_n (j := 1) dX1_at_0 rfl rfl ?_
  refine nd_iconst (v := (-1)) dX1_at_1 (by decide) ?_
  refine nd_aload_n (j := 0) dX1_at_2 rfl rfl ?_
  refine nd_getI (k := 3) dX1_at_3 k_this rfl (Nat.le_of_ble_eq_true rfl) (nd_flO q287) rfl ?_
  refine nd_iconst (v := 1) dX1_at_6 (by decide) ?_
  refine nd_isub dX1_at_7 ?_
  replace hf := caE hf
  obtain ⟨v2, h1, e_h1, hf⟩ := hf
  refine nd_Si [] (tX1_outside l w hfl F d e_h1) rfl dX1_at_8 mw_X1_outside (Or.inl q676) q516 (by omega) (by omega) (Nat.le_of_ble_eq_true rfl) ?_
  refine nd_if_eq (tgt := 22) dX1_at_11 (by decide) (fun c3 => ?_) (fun c3 => ?_)
  · replace hf := ifp c3 hf
    refine nd_iload_n (j := 1) dX1_at_22 rfl rfl ?_
    refine nd_if_ge (tgt := 33) dX1_at_23 (by decide) (fun c4 => ?_) (fun c4 => ?_)
    · replace hf := ifp c4 hf
      refine nd_aload_n (j := 0) dX1_at_33 rfl rfl ?_
      refine nd_getP (k := 2) dX1_at_34 k_this rfl (Nat.le_of_ble_eq_true rfl) (nd_flO q286) rfl (fun ok5 => ?_)
      replace hf := nnE hf
      obtain ⟨a6, e_a6, hf⟩ := hf
      refine nd_topr e_a6.symm ?_
      have k_a6 : nd_Kd a6 = 20 := nd_c1 (ok5 a6 e_a6)
      refine nd_iload_n (j := 1) dX1_at_37 rfl rfl ?_
      replace hf := ckE hf
      obtain ⟨c7, hf⟩ := hf
      refine nd_iald dX1_at_38 k_a6 c7 ?_
      cases hf
      exact nd_iret (v := (gA h1 a6 (Int32.toNatClampNeg p0))) dX1_at_39
    · replace hf := ifn c4 hf
      refine nd_aload_n (j := 0) dX1_at_26 rfl rfl ?_
      refine nd_getI (k := 3) dX1_at_27 k_this rfl (Nat.le_of_ble_eq_true rfl) (nd_flO q287) rfl ?_
      refine nd_goto (tgt := 39) dX1_at_30 (by decide) ?_
      cases hf
      exact nd_iret (v := (gI h1 103 this)) dX1_at_39
  · replace hf := ifn c3 hf
    cases hf
    exact nd_throw 4 rfl dX1_at_14 dX1_at_17 dX1_at_18 dX1_at_21 (by decide +kernel) nd_xa4 nd_xg4 q772 q105 (by omega) (by show 0 + 81 ≤ _; omega)
def fX1_forget_35 (F d : Nat) : Nat → Nat → Int32 → Hp → Option (Hp)
  | 0, _, _, _ => none
  | n + 1, this, x1, h =>
    nn (gP h 111 this) fun a2 => (
    if (Int32.ofNat (nd_Ln a2)) ≤ x1 then
    (some h)
    else
    (nn (gP h 111 this) fun a5 => (
    ck (inb x1 (nd_Ln a5)) (
    bn (sA h a5 (Int32.toNatClampNeg x1) 0) fun h7 => (
    bn (x1 + 1) fun v8 => (
    fX1_forget_35 F d n this v8 h7))))))
def fX1_forget_14 (F d : Nat) : Nat → Nat → Int32 → Hp → Option (Hp)
  | 0, _, _, _ => none
  | n + 1, this, x1, h =>
    if 8 ≤ x1 then
    (fX1_forget_35 F d F this 0 h)
    else
    (nn (gP h 108 this) fun a3 => (
    ck (inb x1 (nd_Ln a3)) (
    bn (sR h a3 (Int32.toNatClampNeg x1) none) fun h5 => (
    bn (x1 + 1) fun v6 => (
    fX1_forget_14 F d n this v6 h5)))))
def fX1_forget (F d : Nat) (this : Nat) (h : Hp) : Option (Hp) :=
  bn (sI h 101 this 0) fun h1 => (
  nn (gP h1 104 this) fun a3 => (
  cv (fX3_clear F d a3 h1) fun h4 => (
  fX1_forget_14 F d F this 0 h4)))
set_option maxHeartbeats 4000000 in
theorem tX1_forget_35 (l : Launch) (w : Wd) (hfl : l.stackTraces = false) (F d : Nat) (r : Hp) : ∀ (n : Nat) (this : Nat) (x1 : Int32) (k_this : nd_Kd this = 0) (h : Hp), fX1_forget_35 F d n this x1 h = some r → nd_V l w yX1_forget cX1_forget 2 none 1 20 (.inl none, r) h 35 [(0, vr (some this)), (1, vi x1)] [] := by
  intro n
  induction n with
  | zero => intro _ _ _ _ hf; cases hf
  | succ n ih =>
    intro this x1 k_this h hf
    unfold fX1_forget_35 at hf
    refine nd_iload_n (j := 1) dX1_forget_35 rfl rfl ?_
    refine nd_aload_n (j := 0) dX1_forget_36 rfl rfl ?_
    refine nd_getP (k := 11) dX1_forget_37 k_this rfl (Nat.le_of_ble_eq_true rfl) (nd_flO q295) rfl (fun ok1 => ?_)
    replace hf := nnE hf
    obtain ⟨a2, e_a2, hf⟩ := hf
    refine nd_topr e_a2.symm ?_
    have k_a2 : nd_Kd a2 = 22 := nd_c1 (ok1 a2 e_a2)
    refine nd_alen (t := 2) (v := Int32.ofNat (nd_Ln a2)) dX1_forget_40 k_a2 (fun _ => rfl) rfl ?_
    refine nd_icmp_ge (tgt := 57) dX1_forget_41 (by decide) (fun c3 => ?_) (fun c3 => ?_)
    · replace hf := ifp c3 hf
      cases hf
      exact nd_vret dX1_forget_57
    · replace hf := ifn c3 hf
      refine nd_aload_n (j := 0) dX1_forget_44 rfl rfl ?_
      refine nd_getP (k := 11) dX1_forget_45 k_this rfl (Nat.le_of_ble_eq_true rfl) (nd_flO q295) rfl (fun ok4 => ?_)
      replace hf := nnE hf
      obtain ⟨a5, e_a5, hf⟩ := hf
      refine nd_topr e_a5.symm ?_
      have k_a5 : nd_Kd a5 = 22 := nd_c1 (ok4 a5 e_a5)
      refine nd_iload_n (j := 1) dX1_forget_48 rfl rfl ?_
      refine nd_iconst (v := 0) dX1_forget_49 (by decide) ?_
      replace hf := ckE hf
      obtain ⟨c6, hf⟩ := hf
      refine nd_zast dX1_forget_50 k_a5 c6 (by decide) ?_
      replace hf := bnE hf
      obtain ⟨h7, e_h7, hf⟩ := hf
      refine nd_hp e_h7 ?_
      replace hf := bnE hf
      obtain ⟨v8, e_v8, hf⟩ := hf
      refine nd_iinc (v := v8) (j := 1) [(1, vi v8), (0, vr (some this))] dX1_forget_51 rfl (by rw [e_v8]; rfl) (Nat.le_of_ble_eq_true rfl) rfl ?_
      refine nd_goto (tgt := 35) dX1_forget_54 (by decide) ?_
      exact nd_loc [1, 0] rfl (ih _ _ k_this _ hf)
set_option maxHeartbeats 4000000 in
theorem tX1_forget_14 (l : Launch) (w : Wd) (hfl : l.stackTraces = false) (F d : Nat) (r : Hp) : ∀ (n : Nat) (this : Nat) (x1 : Int32) (k_this : nd_Kd this = 0) (h : Hp), fX1_forget_14 F d n this x1 h = some r → nd_V l w yX1_forget cX1_forget 2 none 1 20 (.inl none, r) h 14 [(0, vr (some this)), (1, vi x1)] [] := by
  intro n
  induction n with
  | zero => intro _ _ _ _ hf; cases hf
  | succ n ih =>
    intro this x1 k_this h hf
    unfold fX1_forget_14 at hf
    refine nd_iload_n (j := 1) dX1_forget_14 rfl rfl ?_
    refine nd_bipush (v := 8) dX1_forget_15 (by decide) ?_
    refine nd_icmp_ge (tgt := 33) dX1_forget_17 (by decide) (fun c1 => ?_) (fun c1 => ?_)
    · replace hf := ifp c1 hf
      refine nd_iconst (v := 0) dX1_forget_33 (by decide) ?_
      refine nd_istore_n [(1, vi 0), (0, vr (some this))] dX1_forget_34 rfl (Nat.le_of_ble_eq_true rfl) rfl ?_
      exact nd_loc [1, 0] rfl (tX1_forget_35 l w hfl F d r F _ _ k_this _ hf)
    · replace hf := ifn c1 hf
      refine nd_aload_n (j := 0) dX1_forget_20 rfl rfl ?_
      refine nd_getP (k := 8) dX1_forget_21 k_this rfl (Nat.le_of_ble_eq_true rfl) (nd_flO q292) rfl (fun ok2 => ?_)
      replace hf := nnE hf
      obtain ⟨a3, e_a3, hf⟩ := hf
      refine nd_topr e_a3.symm ?_
      have k_a3 : nd_Kd a3 = 24 := nd_c1 (ok2 a3 e_a3)
      refine nd_iload_n (j := 1) dX1_forget_24 rfl rfl ?_
      refine nd_null dX1_forget_25 ?_
      replace hf := ckE hf
      obtain ⟨c4, hf⟩ := hf
      refine nd_aast (t := 4) (C := "NotationDesk$Type") dX1_forget_26 k_a3 (by decide) (fun _ => rfl) c4 (fun b e => by cases e) ?_
      replace hf := bnE hf
      obtain ⟨h5, e_h5, hf⟩ := hf
      refine nd_hp e_h5 ?_
      replace hf := bnE hf
      obtain ⟨v6, e_v6, hf⟩ := hf
      refine nd_iinc (v := v6) (j := 1) [(1, vi v6), (0, vr (some this))] dX1_forget_27 rfl (by rw [e_v6]; rfl) (Nat.le_of_ble_eq_true rfl) rfl ?_
      refine nd_goto (tgt := 14) dX1_forget_30 (by decide) ?_
      exact nd_loc [1, 0] rfl (ih _ _ k_this _ hf)
set_option maxHeartbeats 4000000 in
theorem tX1_forget (l : Launch) (w : Wd) (hfl : l.stackTraces = false) (F d : Nat) {this : Nat} (k_this : nd_Kd this = 0) {h : Hp} {r : Hp} (hf : fX1_forget F d this h = some r) : nd_C l w yX1_forget cX1_forget 2 none 1 20 [vr (some this)] h (.inl none, r) := by
  refine nd_start (as := [vr (some this)]) hfl (by decide) (Nat.le_of_ble_eq_true rfl) ?_
  unfold fX1_forget at hf
  refine nd_eqL (L' := [(0, vr (some this))]) rfl ?_
  refine nd_aload_n (j := 0) dX1_forget_0 rfl rfl ?_
  refine nd_iconst (v := 0) dX1_forget_1 (by decide) ?_
  refine nd_putZ (k := 1) (by decide) dX1_forget_2 k_this rfl (Nat.le_of_ble_eq_true rfl) (nd_flO q285) rfl rfl rfl ?_
  replace hf := bnE hf
  obtain ⟨h1, e_h1, hf⟩ := hf
  refine nd_hp e_h1 ?_
  refine nd_aload_n (j := 0) dX1_forget_5 rfl rfl ?_
  refine nd_getP (k := 4) dX1_forget_6 k_this rfl (Nat.le_of_ble_eq_true rfl) (nd_flO q288) rfl (fun ok2 => ?_)
  replace hf := nnE hf
  obtain ⟨a3, e_a3, hf⟩ := hf
  refine nd_topr e_a3.symm ?_
  have k_a3 : nd_Kd a3 = 2 := nd_c1 (ok2 a3 e_a3)
  replace hf := cvE hf
  obtain ⟨h4, e_h4, hf⟩ := hf
  refine nd_Vv [] (tX3_clear l w hfl F d k_a3 e_h4) rfl dX1_forget_9 mw_X3_clear (Or.inl q330) k_a3 rfl q331 q332 (by omega) (by omega) (Nat.le_of_ble_eq_true rfl) ?_
  refine nd_iconst (v := 0) dX1_forget_12 (by decide) ?_
  refine nd_istore_n [(1, vi 0), (0, vr (some this))] dX1_forget_13 rfl (Nat.le_of_ble_eq_true rfl) rfl ?_
  exact nd_loc [1, 0] rfl (tX1_forget_14 l w hfl F d r F _ _ k_this _ hf)
def fX1_clear (F d : Nat) (this : Nat) (h : Hp) : Option (Int32 × Hp) :=
  nn (gP h 100 this) fun a2 => (
  bn (gI h 201 a2) fun v3 => (
  nn (gP h 100 this) fun a5 => (
  bn (sI h 201 a5 0) fun h6 => (
  cv (fX1_forget F d this h6) fun h7 => (
  some (v3, h7))))))
set_option maxHeartbeats 4000000 in
theorem tX1_clear (l : Launch) (w : Wd) (hfl : l.stackTraces = false) (F d : Nat) {this : Nat} (k_this : nd_Kd this = 0) {h : Hp} {r : Int32 × Hp} (hf : fX1_clear F d this h = some r) : nd_C l w yX1_clear cX1_clear 2 (some .int) 2 41 [vr (some this)] h (.inl (some (vi r.1)), r.2) := by
  refine nd_start (as := [vr (some this)]) hfl (by decide) (Nat.le_of_ble_eq_true rfl) ?_
  unfold fX1_clear at hf
  refine nd_eqL (L' := [(0, vr (some this))]) rfl ?_
  refine nd_aload_n (j := 0) dX1_clear_0 rfl rfl ?_
  refine nd_getP (k := 0) dX1_clear_1 k_this rfl (Nat.le_of_ble_eq_true rfl) (nd_flO q284) rfl (fun ok1 => ?_)
  replace hf := nnE hf
  obtain ⟨a2, e_a2, hf⟩ := hf
  refine nd_topr e_a2.symm ?_
  have k_a2 : nd_Kd a2 = 1 := nd_c1 (ok1 a2 e_a2)
  refine nd_getI (k := 1) dX1_clear_4 k_a2 rfl (Nat.le_of_ble_eq_true rfl) (nd_flN q144) rfl ?_
  replace hf := bnE hf
  obtain ⟨v3, e_v3, hf⟩ := hf
  refine nd_top e_v3 ?_
  refine nd_istore_n [(1, vi v3), (0, vr (some this))] dX1_clear_7 rfl (Nat.le_of_ble_eq_true rfl) rfl ?_
  refine nd_aload_n (j := 1) dX1_clear_8 rfl rfl ?_
  refine nd_getP (k := 0) dX1_clear_9 k_this rfl (Nat.le_of_ble_eq_true rfl) (nd_flO q284) rfl (fun ok4 => ?_)
  replace hf := nnE hf
  obtain ⟨a5, e_a5, hf⟩ := hf
  refine nd_topr e_a5.symm ?_
  have k_a5 : nd_Kd a5 = 1 := nd_c1 (ok4 a5 e_a5)
  refine nd_iconst (v := 0) dX1_clear_12 (by decide) ?_
  refine nd_putN (k := 1) dX1_clear_13 k_a5 rfl (Nat.le_of_ble_eq_true rfl) (nd_flN q144) rfl rfl rfl ?_
  replace hf := bnE hf
  obtain ⟨h6, e_h6, hf⟩ := hf
  refine nd_hp e_h6 ?_
  refine nd_aload_n (j := 1) dX1_clear_16 rfl rfl ?_
  replace hf := cvE hf
  obtain ⟨h7, e_h7, hf⟩ := hf
  refine nd_Vv [] (tX1_forget l w hfl F d k_this e_h7) rfl dX1_clear_17 mw_X1_forget (Or.inl q326) k_this rfl q328 qs0 (by omega) (by omega) (Nat.le_of_ble_eq_true rfl) ?_
  refine nd_iload_n (j := 0) dX1_clear_20 rfl rfl ?_
  cases hf
  exact nd_iret (v := v3) dX1_clear_21
def fX1_compile (F d : Nat) (this : Nat) (h : Hp) : Option (Int32 × Hp) :=
  cv (fX1_forget F d this h) fun h1 => (
  nn (gP h1 100 this) fun a4 => (
  ca (fX2_run F d a4 h1) fun v6 h5 => (
  ck (isB v6) (
  bn (sI h5 101 this v6) fun h7 => (
  if (gI h7 101 this) = 0 then
  (nn (gP h7 100 this) fun a11 => (
  some ((gI h7 203 a11), h7)))
  else
  (some (0, h7)))))))
set_option maxHeartbeats 4000000 in
theorem tX1_compile (l : Launch) (w : Wd) (hfl : l.stackTraces = false) (F d : Nat) {this : Nat} (k_this : nd_Kd this = 0) {h : Hp} {r : Int32 × Hp} (hf : fX1_compile F d this h = some r) : nd_C l w yX1_compile cX1_compile 1 (some .int) (4 + 8 * d) (98 + 400 * d) [vr (some this)] h (.inl (some (vi r.1)), r.2) := by
  refine nd_start (as := [vr (some this)]) hfl (by decide) (Nat.le_of_ble_eq_true rfl) ?_
  unfold fX1_compile at hf
  refine nd_eqL (L' := [(0, vr (some this))]) rfl ?_
  refine nd_aload_n (j := 0) dX1_compile_0 rfl rfl ?_
  replace hf := cvE hf
  obtain ⟨h1, e_h1, hf⟩ := hf
  refine nd_Vv [] (tX1_forget l w hfl F d k_this e_h1) rfl dX1_compile_1 mw_X1_forget (Or.inl q326) k_this rfl q328 qs0 (by omega) (by omega) (Nat.le_of_ble_eq_true rfl) ?_
  refine nd_aload_n (j := 0) dX1_compile_4 rfl rfl ?_
  refine nd_aload_n (j := 0) dX1_compile_5 rfl rfl ?_
  refine nd_getP (k := 0) dX1_compile_6 k_this rfl (Nat.le_of_ble_eq_true rfl) (nd_flO q284) rfl (fun ok3 => ?_)
  replace hf := nnE hf
  obtain ⟨a4, e_a4, hf⟩ := hf
  refine nd_topr e_a4.symm ?_
  have k_a4 : nd_Kd a4 = 1 := nd_c1 (ok3 a4 e_a4)
  replace hf := caE hf
  obtain ⟨v6, h5, e_h5, hf⟩ := hf
  refine nd_Vi [vr (some this)] (tX2_run l w hfl F d k_a4 e_h5) rfl dX1_compile_9 mw_X2_run (Or.inl q342) k_a4 rfl q343 q344 (by omega) (by omega) (Nat.le_of_ble_eq_true rfl) ?_
  replace hf := ckE hf
  obtain ⟨c8, hf⟩ := hf
  refine nd_putZ (k := 1) c8 dX1_compile_12 k_this rfl (Nat.le_of_ble_eq_true rfl) (nd_flO q285) rfl rfl rfl ?_
  replace hf := bnE hf
  obtain ⟨h7, e_h7, hf⟩ := hf
  refine nd_hp e_h7 ?_
  refine nd_aload_n (j := 0) dX1_compile_15 rfl rfl ?_
  refine nd_getI (k := 1) dX1_compile_16 k_this rfl (Nat.le_of_ble_eq_true rfl) (nd_flO q285) rfl ?_
  refine nd_if_eq (tgt := 26) dX1_compile_19 (by decide) (fun c9 => ?_) (fun c9 => ?_)
  · replace hf := ifp c9 hf
    refine nd_aload_n (j := 0) dX1_compile_26 rfl rfl ?_
    refine nd_getP (k := 0) dX1_compile_27 k_this rfl (Nat.le_of_ble_eq_true rfl) (nd_flO q284) rfl (fun ok10 => ?_)
    replace hf := nnE hf
    obtain ⟨a11, e_a11, hf⟩ := hf
    refine nd_topr e_a11.symm ?_
    have k_a11 : nd_Kd a11 = 1 := nd_c1 (ok10 a11 e_a11)
    refine nd_getI (k := 3) dX1_compile_30 k_a11 rfl (Nat.le_of_ble_eq_true rfl) (nd_flN q147) rfl ?_
    cases hf
    exact nd_iret (v := (gI h7 203 a11)) dX1_compile_33
  · replace hf := ifn c9 hf
    refine nd_iconst (v := 0) dX1_compile_22 (by decide) ?_
    refine nd_goto (tgt := 33) dX1_compile_23 (by decide) ?_
    cases hf
    exact nd_iret (v := 0) dX1_compile_33
def v_arrange (F : Nat) : Nat → Nat → Nat → Int32 → Hp → Option (Hp)
  | 0, _, _, _, _ => none
  | d + 1, p0, p1, p2, h =>
    fX3_arrange F d (v_arrange F d) p0 p1 p2 h
set_option maxHeartbeats 4000000 in
theorem tv_arrange (l : Launch) (w : Wd) (hfl : l.stackTraces = false) (F : Nat) : ∀ (d : Nat) {p0 : Nat} {p1 : Nat} {p2 : Int32} (k_p0 : nd_Kd p0 = 2) (k_p1 : nd_Kd p1 = 13) {h : Hp} {r : Hp}, v_arrange F d p0 p1 p2 h = some r → nd_C l w yX3_arrange cX3_arrange 4 none (1 + 8 * d) (30 + 400 * d) [vr (some p0), vr (some p1), vi p2] h (.inl none, r) := by
  intro d
  induction d with
  | zero => intro p0 p1 p2 k_p0 k_p1 h r hf; cases hf
  | succ d ih =>
    intro p0 p1 p2 k_p0 k_p1 h r hf
    unfold v_arrange at hf
    exact nd_C.room (tX3_arrange l w hfl F d (v_arrange F d) (ih) k_p0 k_p1 hf) (by omega) (by omega)
def fX1_keep (F d : Nat) (this : Nat) (p0 : Nat) (h : Hp) : Option (Hp) :=
  nn (gP h 104 this) fun a2 => (
  nn (gP h 105 this) fun a4 => (
  bn (sP h 104 this (some a4)) fun h5 => (
  bn (sP h5 105 this (some a2)) fun h6 => (
  nn (gP h6 104 this) fun a8 => (
  bn (sI h6 305 a8 0) fun h9 => (
  nn (gP h9 104 this) fun a11 => (
  cv (v_arrange F d a11 p0 (-1) h9) fun h12 => (
  some h12))))))))
set_option maxHeartbeats 4000000 in
theorem tX1_keep (l : Launch) (w : Wd) (hfl : l.stackTraces = false) (F d : Nat) {this : Nat} {p0 : Nat} (k_this : nd_Kd this = 0) (k_p0 : nd_Kd p0 = 13) {h : Hp} {r : Hp} (hf : fX1_keep F d this p0 h = some r) : nd_C l w yX1_keep cX1_keep 3 none (2 + 8 * d) (53 + 400 * d) [vr (some this), vr (some p0)] h (.inl none, r) := by
  refine nd_start (as := [vr (some this), vr (some p0)]) hfl (by decide) (Nat.le_of_ble_eq_true rfl) ?_
  unfold fX1_keep at hf
  refine nd_eqL (L' := [(0, vr (some this)), (1, vr (some p0))]) rfl ?_
  refine nd_aload_n (j := 0) dX1_keep_0 rfl rfl ?_
  refine nd_getP (k := 4) dX1_keep_1 k_this rfl (Nat.le_of_ble_eq_true rfl) (nd_flO q288) rfl (fun ok1 => ?_)
  replace hf := nnE hf
  obtain ⟨a2, e_a2, hf⟩ := hf
  refine nd_topr e_a2.symm ?_
  have k_a2 : nd_Kd a2 = 2 := nd_c1 (ok1 a2 e_a2)
  refine nd_astore_n [(2, vr (some a2)), (0, vr (some this)), (1, vr (some p0))] dX1_keep_4 rfl (Nat.le_of_ble_eq_true rfl) rfl ?_
  refine nd_aload_n (j := 1) dX1_keep_5 rfl rfl ?_
  refine nd_aload_n (j := 1) dX1_keep_6 rfl rfl ?_
  refine nd_getP (k := 5) dX1_keep_7 k_this rfl (Nat.le_of_ble_eq_true rfl) (nd_flO q289) rfl (fun ok3 => ?_)
  replace hf := nnE hf
  obtain ⟨a4, e_a4, hf⟩ := hf
  refine nd_topr e_a4.symm ?_
  have k_a4 : nd_Kd a4 = 2 := nd_c1 (ok3 a4 e_a4)
  refine nd_putP (k := 4) (f := 104) dX1_keep_10 k_this rfl (Nat.le_of_ble_eq_true rfl) (nd_flO q288) rfl rfl rfl rfl (fun b e => by cases e; rw [k_a4]; rfl) ?_
  replace hf := bnE hf
  obtain ⟨h5, e_h5, hf⟩ := hf
  refine nd_hp e_h5 ?_
  refine nd_aload_n (j := 1) dX1_keep_13 rfl rfl ?_
  refine nd_aload_n (j := 0) dX1_keep_14 rfl rfl ?_
  refine nd_putP (k := 5) (f := 105) dX1_keep_15 k_this rfl (Nat.le_of_ble_eq_true rfl) (nd_flO q289) rfl rfl rfl rfl (fun b e => by cases e; rw [k_a2]; rfl) ?_
  replace hf := bnE hf
  obtain ⟨h6, e_h6, hf⟩ := hf
  refine nd_hp e_h6 ?_
  refine nd_aload_n (j := 1) dX1_keep_18 rfl rfl ?_
  refine nd_getP (k := 4) dX1_keep_19 k_this rfl (Nat.le_of_ble_eq_true rfl) (nd_flO q288) rfl (fun ok7 => ?_)
  replace hf := nnE hf
  obtain ⟨a8, e_a8, hf⟩ := hf
  refine nd_topr e_a8.symm ?_
  have k_a8 : nd_Kd a8 = 2 := nd_c1 (ok7 a8 e_a8)
  refine nd_iconst (v := 0) dX1_keep_22 (by decide) ?_
  refine nd_putN (k := 5) dX1_keep_23 k_a8 rfl (Nat.le_of_ble_eq_true rfl) (nd_flN q211) rfl rfl rfl ?_
  replace hf := bnE hf
  obtain ⟨h9, e_h9, hf⟩ := hf
  refine nd_hp e_h9 ?_
  refine nd_aload_n (j := 1) dX1_keep_26 rfl rfl ?_
  refine nd_getP (k := 4) dX1_keep_27 k_this rfl (Nat.le_of_ble_eq_true rfl) (nd_flO q288) rfl (fun ok10 => ?_)
  replace hf := nnE hf
  obtain ⟨a11, e_a11, hf⟩ := hf
  refine nd_topr e_a11.symm ?_
  have k_a11 : nd_Kd a11 = 2 := nd_c1 (ok10 a11 e_a11)
  refine nd_aload_n (j := 2) dX1_keep_30 rfl rfl ?_
  refine nd_iconst (v := (-1)) dX1_keep_31 (by decide) ?_
  replace hf := cvE hf
  obtain ⟨h12, e_h12, hf⟩ := hf
  refine nd_Sv [] (tv_arrange l w hfl F d k_a11 k_p0 e_h12) rfl dX1_keep_32 mw_X3_arrange (Or.inr ⟨_, q1290⟩) q1291 (by omega) (by omega) (Nat.le_of_ble_eq_true rfl) ?_
  cases hf
  exact nd_vret dX1_keep_35
def fX1_known (F d : Nat) (this : Nat) (p0 : Int32) (h : Hp) : Option ((Option Nat ⊕ Nat) × Hp) :=
  nn (gP h 104 this) fun a2 => (
  ca (fX1_outside F d p0 0 ((gI h 305 a2) - 1) h) fun v4 h3 => (
  if v4 = 0 then
  (nn (gP h3 104 this) fun a7 => (
  nn (gP h3 301 a7) fun a9 => (
  ck (inb p0 (nd_Ln a9)) (
  bn (gR h3 a9 (Int32.toNatClampNeg p0)) fun o12 => (
  some (.inl o12, h3))))))
  else
  (some (.inr 2, nx h3 6))))
set_option maxHeartbeats 4000000 in
theorem tX1_known (l : Launch) (w : Wd) (hfl : l.stackTraces = false) (F d : Nat) {this : Nat} {p0 : Int32} (k_this : nd_Kd this = 0) {h : Hp} {r : (Option Nat ⊕ Nat) × Hp} (hf : fX1_known F d this p0 h = some r) : nd_C l w yX1_known cX1_known 2 (some (.object "NotationDesk$Part")) 6 100 [vr (some this), vi p0] h (rxr r) := by
  refine nd_start (as := [vr (some this), vi p0]) hfl (by decide) (Nat.le_of_ble_eq_true rfl) ?_
  unfold fX1_known at hf
  refine nd_eqL (L' := [(0, vr (some this)), (1, vi p0)]) rfl ?_
  refine nd_iload_n (j := 1) dX1_known_0 rfl rfl ?_
  refine nd_iconst (v := 0) dX1_known_1 (by decide) ?_
  refine nd_aload_n (j := 0) dX1_known_2 rfl rfl ?_
  refine nd_getP (k := 4) dX1_known_3 k_this rfl (Nat.le_of_ble_eq_true rfl) (nd_flO q288) rfl (fun ok1 => ?_)
  replace hf := nnE hf
  obtain ⟨a2, e_a2, hf⟩ := hf
  refine nd_topr e_a2.symm ?_
  have k_a2 : nd_Kd a2 = 2 := nd_c1 (ok1 a2 e_a2)
  refine nd_getI (k := 5) dX1_known_6 k_a2 rfl (Nat.le_of_ble_eq_true rfl) (nd_flN q211) rfl ?_
  refine nd_iconst (v := 1) dX1_known_9 (by decide) ?_
  refine nd_isub dX1_known_10 ?_
  replace hf := caE hf
  obtain ⟨v4, h3, e_h3, hf⟩ := hf
  refine nd_Si [] (tX1_outside l w hfl F d e_h3) rfl dX1_known_11 mw_X1_outside (Or.inl q676) q516 (by omega) (by omega) (Nat.le_of_ble_eq_true rfl) ?_
  refine nd_if_eq (tgt := 25) dX1_known_14 (by decide) (fun c5 => ?_) (fun c5 => ?_)
  · replace hf := ifp c5 hf
    refine nd_aload_n (j := 0) dX1_known_25 rfl rfl ?_
    refine nd_getP (k := 4) dX1_known_26 k_this rfl (Nat.le_of_ble_eq_true rfl) (nd_flO q288) rfl (fun ok6 => ?_)
    replace hf := nnE hf
    obtain ⟨a7, e_a7, hf⟩ := hf
    refine nd_topr e_a7.symm ?_
    have k_a7 : nd_Kd a7 = 2 := nd_c1 (ok6 a7 e_a7)
    refine nd_getP (k := 1) dX1_known_29 k_a7 rfl (Nat.le_of_ble_eq_true rfl) (nd_flN q203) rfl (fun ok8 => ?_)
    replace hf := nnE hf
    obtain ⟨a9, e_a9, hf⟩ := hf
    refine nd_topr e_a9.symm ?_
    have k_a9 : nd_Kd a9 = 31 := nd_c1 (ok8 a9 e_a9)
    refine nd_iload_n (j := 1) dX1_known_32 rfl rfl ?_
    replace hf := ckE hf
    obtain ⟨c10, hf⟩ := hf
    refine nd_aald (t := 11) (C := "NotationDesk$Part") dX1_known_33 k_a9 (by decide) (fun _ => rfl) c10 (fun ok11 => ?_)
    replace hf := bnE hf
    obtain ⟨o12, e_o12, hf⟩ := hf
    refine nd_topr e_o12 ?_
    have ok_o12 : ∀ b, o12 = some b → [13].contains (nd_Kd b) = true := fun b q => ok11 b (e_o12 ▸ q)
    cases hf
    exact nd_aret (fun b e => okT13' (ok_o12 b e)) dX1_known_34
  · replace hf := ifn c5 hf
    cases hf
    exact nd_throw 2 rfl dX1_known_17 dX1_known_20 dX1_known_21 dX1_known_24 (by decide +kernel) nd_xa2 nd_xg2 q841 q110 (by omega) (by show 0 + 81 ≤ _; omega)
def fX1_named_43 (F d : Nat) (s0 : Option Nat) (h : Hp) : Option ((Option Nat ⊕ Nat) × Hp) :=
  oc s0
  (some (.inr 2, nx h 6))
  (fun a1 =>
  some (.inl (some a1), h))
def fX1_named_42 (F d : Nat)  (h : Hp) : Option ((Option Nat ⊕ Nat) × Hp) :=
  fX1_named_43 F d none h
def fX1_named (F d : Nat) (this : Nat) (p0 : Int32) (h : Hp) : Option ((Option Nat ⊕ Nat) × Hp) :=
  if (gI h 101 this) = 0 then
  (some (.inr 1, nx h 6))
  else
  (if p0 < 65 then
  (fX1_named_42 F d h)
  else
  (if 90 < p0 then
  (fX1_named_42 F d h)
  else
  (nn (gP h 100 this) fun a5 => (
  nn (gP h 204 a5) fun a7 => (
  ck (inb (p0 - 65) (nd_Ln a7)) (
  bn (gR h a7 (Int32.toNatClampNeg (p0 - 65))) fun o10 => (
  fX1_named_43 F d o10 h)))))))
set_option maxHeartbeats 4000000 in
theorem tX1_named_43 (l : Launch) (w : Wd) (hfl : l.stackTraces = false) (F d : Nat) (r : (Option Nat ⊕ Nat) × Hp) (s0 : Option Nat) (ok_s0 : ∀ b, s0 = some b → [6, 7, 8, 9, 11, 12].contains (nd_Kd b) = true) (h : Hp) (hf : fX1_named_43 F d s0 h = some r) : nd_V l w yX1_named cX1_named 3 (some (.object "NotationDesk$Type")) 6 100 (rxr r) h 43 [] [vr s0] := by
  unfold fX1_named_43 at hf
  refine nd_astore_n [(2, vr s0)] dX1_named_43 rfl (Nat.le_of_ble_eq_true rfl) rfl ?_
  refine nd_aload_n (j := 0) dX1_named_44 rfl rfl ?_
  refine nd_ifnonnull (tgt := 56) dX1_named_45 (by decide) (fun e_a1 => ?_) (fun a1 e_a1 => ?_)
  · replace hf := ocN e_a1 hf
    subst e_a1
    cases hf
    exact nd_throw 2 rfl dX1_named_48 dX1_named_51 dX1_named_52 dX1_named_55 (by decide +kernel) nd_xa2 nd_xg2 q841 q110 (by omega) (by show 0 + 81 ≤ _; omega)
  · replace hf := ocS e_a1 hf
    have k_a1 : [6, 7, 8, 9, 11, 12].contains (nd_Kd a1) = true := ok_s0 a1 e_a1
    subst e_a1
    refine nd_aload_n (j := 0) dX1_named_56 rfl rfl ?_
    cases hf
    exact nd_aret (fun b e => by cases e; exact okT99' k_a1) dX1_named_57
set_option maxHeartbeats 4000000 in
theorem tX1_named_42 (l : Launch) (w : Wd) (hfl : l.stackTraces = false) (F d : Nat) (r : (Option Nat ⊕ Nat) × Hp)   (h : Hp) (hf : fX1_named_42 F d h = some r) : nd_V l w yX1_named cX1_named 3 (some (.object "NotationDesk$Type")) 6 100 (rxr r) h 42 [] [] := by
  unfold fX1_named_42 at hf
  refine nd_null dX1_named_42 ?_
  exact nd_loc [] rfl (tX1_named_43 l w hfl F d r _ (fun b e => by cases e) _ hf)
set_option maxHeartbeats 4000000 in
theorem tX1_named (l : Launch) (w : Wd) (hfl : l.stackTraces = false) (F d : Nat) {this : Nat} {p0 : Int32} (k_this : nd_Kd this = 0) {h : Hp} {r : (Option Nat ⊕ Nat) × Hp} (hf : fX1_named F d this p0 h = some r) : nd_C l w yX1_named cX1_named 3 (some (.object "NotationDesk$Type")) 6 100 [vr (some this), vi p0] h (rxr r) := by
  refine nd_start (as := [vr (some this), vi p0]) hfl (by decide) (Nat.le_of_ble_eq_true rfl) ?_
  unfold fX1_named at hf
  refine nd_eqL (L' := [(0, vr (some this)), (1, vi p0)]) rfl ?_
  refine nd_aload_n (j := 0) dX1_named_0 rfl rfl ?_
  refine nd_getI (k := 1) dX1_named_1 k_this rfl (Nat.le_of_ble_eq_true rfl) (nd_flO q285) rfl ?_
  refine nd_if_ne (tgt := 15) dX1_named_4 (by decide) (fun c1 => ?_) (fun c1 => ?_)
  · replace hf := ifn c1 hf
    refine nd_iload_n (j := 1) dX1_named_15 rfl rfl ?_
    refine nd_bipush (v := 65) dX1_named_16 (by decide) ?_
    refine nd_icmp_lt (tgt := 42) dX1_named_18 (by decide) (fun c2 => ?_) (fun c2 => ?_)
    · replace hf := ifp c2 hf
      exact nd_loc [] rfl (tX1_named_42 l w hfl F d r _ hf)
    · replace hf := ifn c2 hf
      refine nd_iload_n (j := 1) dX1_named_21 rfl rfl ?_
      refine nd_bipush (v := 90) dX1_named_22 (by decide) ?_
      refine nd_icmp_gt (tgt := 42) dX1_named_24 (by decide) (fun c3 => ?_) (fun c3 => ?_)
      · replace hf := ifp c3 hf
        exact nd_loc [] rfl (tX1_named_42 l w hfl F d r _ hf)
      · replace hf := ifn c3 hf
        refine nd_aload_n (j := 0) dX1_named_27 rfl rfl ?_
        refine nd_getP (k := 0) dX1_named_28 k_this rfl (Nat.le_of_ble_eq_true rfl) (nd_flO q284) rfl (fun ok4 => ?_)
        replace hf := nnE hf
        obtain ⟨a5, e_a5, hf⟩ := hf
        refine nd_topr e_a5.symm ?_
        have k_a5 : nd_Kd a5 = 1 := nd_c1 (ok4 a5 e_a5)
        refine nd_getP (k := 4) dX1_named_31 k_a5 rfl (Nat.le_of_ble_eq_true rfl) (nd_flN q149) rfl (fun ok6 => ?_)
        replace hf := nnE hf
        obtain ⟨a7, e_a7, hf⟩ := hf
        refine nd_topr e_a7.symm ?_
        have k_a7 : nd_Kd a7 = 24 := nd_c1 (ok6 a7 e_a7)
        refine nd_iload_n (j := 1) dX1_named_34 rfl rfl ?_
        refine nd_bipush (v := 65) dX1_named_35 (by decide) ?_
        refine nd_isub dX1_named_37 ?_
        replace hf := ckE hf
        obtain ⟨c8, hf⟩ := hf
        refine nd_aald (t := 4) (C := "NotationDesk$Type") dX1_named_38 k_a7 (by decide) (fun _ => rfl) c8 (fun ok9 => ?_)
        replace hf := bnE hf
        obtain ⟨o10, e_o10, hf⟩ := hf
        refine nd_topr e_o10 ?_
        have ok_o10 : ∀ b, o10 = some b → [6, 7, 8, 9, 11, 12].contains (nd_Kd b) = true := fun b q => ok9 b (e_o10 ▸ q)
        refine nd_goto (tgt := 43) dX1_named_39 (by decide) ?_
        exact nd_loc [] rfl (tX1_named_43 l w hfl F d r _ ok_o10 _ hf)
  · replace hf := ifp c1 hf
    cases hf
    exact nd_throw 1 rfl dX1_named_7 dX1_named_10 dX1_named_11 dX1_named_14 (by decide +kernel) nd_xa1 nd_xg1 q826 q109 (by omega) (by show 0 + 81 ≤ _; omega)
def fX1_need (F d : Nat) (p0 : Int32) (h : Hp) : Option ((Unit ⊕ Nat) × Hp) :=
  if p0 = 0 then
  (some (.inr 0, nx h 6))
  else
  (some (.inl (), h))
set_option maxHeartbeats 4000000 in
theorem tX1_need (l : Launch) (w : Wd) (hfl : l.stackTraces = false) (F d : Nat) {p0 : Int32}  {h : Hp} {r : (Unit ⊕ Nat) × Hp} (hf : fX1_need F d p0 h = some r) : nd_C l w yX1_need cX1_need 1 none 6 100 [vi p0] h (rxv r) := by
  refine nd_start (as := [vi p0]) hfl (by decide) (Nat.le_of_ble_eq_true rfl) ?_
  unfold fX1_need at hf
  refine nd_eqL (L' := [(0, vi p0)]) rfl ?_
  refine nd_iload_n (j := 0) dX1_need_0 rfl rfl ?_
  refine nd_if_ne (tgt := 12) dX1_need_1 (by decide) (fun c1 => ?_) (fun c1 => ?_)
  · replace hf := ifn c1 hf
    cases hf
    exact nd_vret dX1_need_12
  · replace hf := ifp c1 hf
    cases hf
    exact nd_throw 0 rfl dX1_need_4 dX1_need_7 dX1_need_8 dX1_need_11 (by decide +kernel) nd_xa0 nd_xg0 q807 q108 (by omega) (by show 0 + 81 ≤ _; omega)
def fX1_octet_28 (F d : Nat)  (h : Hp) : Option ((Int32 ⊕ Nat) × Hp) :=
  some (.inr 2, nx h 6)
def fX1_octet (F d : Nat) (this : Nat) (p0 : Int32) (p1 : Int32) (h : Hp) : Option ((Int32 ⊕ Nat) × Hp) :=
  cx (fX1_known F d this p0 h) fun v2 h1 => (
  nn v2 fun a4 => (
  if (gI h1 1700 a4) = 4 then
  (ca (fX1_outside F d p1 0 ((gI h1 1701 a4) - 1) h1) fun v7 h6 => (
  if v7 = 0 then
  (nn (gP h6 104 this) fun a10 => (
  nn (gP h6 302 a10) fun a12 => (
  ck (inb ((gI h6 1702 a4) + p1) (nd_Ln a12)) (
  some (.inl (gA h6 a12 (Int32.toNatClampNeg ((gI h6 1702 a4) + p1))), h6)))))
  else
  (fX1_octet_28 F d h6)))
  else
  (fX1_octet_28 F d h1)))
set_option maxHeartbeats 4000000 in
theorem tX1_octet_28 (l : Launch) (w : Wd) (hfl : l.stackTraces = false) (F d : Nat) (r : (Int32 ⊕ Nat) × Hp)   (h : Hp) (hf : fX1_octet_28 F d h = some r) : nd_V l w yX1_octet cX1_octet 4 (some .int) 7 121 (rxi r) h 28 [] [] := by
  unfold fX1_octet_28 at hf
  cases hf
  exact nd_throw 2 rfl dX1_octet_28 dX1_octet_31 dX1_octet_32 dX1_octet_35 (by decide +kernel) nd_xa2 nd_xg2 q841 q110 (by omega) (by show 0 + 81 ≤ _; omega)
set_option maxHeartbeats 4000000 in
theorem tX1_octet (l : Launch) (w : Wd) (hfl : l.stackTraces = false) (F d : Nat) {this : Nat} {p0 : Int32} {p1 : Int32} (k_this : nd_Kd this = 0) {h : Hp} {r : (Int32 ⊕ Nat) × Hp} (hf : fX1_octet F d this p0 p1 h = some r) : nd_C l w yX1_octet cX1_octet 4 (some .int) 7 121 [vr (some this), vi p0, vi p1] h (rxi r) := by
  refine nd_start (as := [vr (some this), vi p0, vi p1]) hfl (by decide) (Nat.le_of_ble_eq_true rfl) ?_
  unfold fX1_octet at hf
  refine nd_eqL (L' := [(0, vr (some this)), (1, vi p0), (2, vi p1)]) rfl ?_
  refine nd_aload_n (j := 0) dX1_octet_0 rfl rfl ?_
  refine nd_iload_n (j := 1) dX1_octet_1 rfl rfl ?_
  replace hf := cxE hf
  rcases hf with ⟨v2, h1, e_h1, hf⟩ | ⟨x_, h1, e_h1, rfl⟩
  rotate_left
  · exact nd_VvX [] (tX1_known l w hfl F d k_this e_h1) rfl dX1_octet_2 mw_X1_known (Or.inl q1301) k_this rfl q1303 qs27 (by omega) (by omega) (Nat.le_of_ble_eq_true rfl) (by decide)
  refine nd_Vr [] (tX1_known l w hfl F d k_this e_h1) rfl dX1_octet_2 mw_X1_known (Or.inl q1301) k_this rfl q1303 qs27 (by omega) (by omega) (Nat.le_of_ble_eq_true rfl) (fun ok3 => ?_)
  have ok_v2 : ∀ b, v2 = some b → [13].contains (nd_Kd b) = true := fun b q => okT13 (ok3 b q)
  refine nd_astore_n [(3, vr v2), (0, vr (some this)), (1, vi p0), (2, vi p1)] dX1_octet_5 rfl (Nat.le_of_ble_eq_true rfl) rfl ?_
  refine nd_aload_n (j := 0) dX1_octet_6 rfl rfl ?_
  replace hf := nnE hf
  obtain ⟨a4, e_a4, hf⟩ := hf
  have k_a4 : nd_Kd a4 = 13 := nd_c1 (ok_v2 a4 e_a4)
  subst e_a4
  refine nd_getI (k := 0) dX1_octet_7 k_a4 rfl (Nat.le_of_ble_eq_true rfl) (nd_flN q906) rfl ?_
  refine nd_iconst (v := 4) dX1_octet_10 (by decide) ?_
  refine nd_icmp_ne (tgt := 28) dX1_octet_11 (by decide) (fun c5 => ?_) (fun c5 => ?_)
  · replace hf := ifn c5 hf
    exact nd_loc [] rfl (tX1_octet_28 l w hfl F d r _ hf)
  · replace hf := ifp c5 hf
    refine nd_iload_n (j := 3) dX1_octet_14 rfl rfl ?_
    refine nd_iconst (v := 0) dX1_octet_15 (by decide) ?_
    refine nd_aload_n (j := 0) dX1_octet_16 rfl rfl ?_
    refine nd_getI (k := 1) dX1_octet_17 k_a4 rfl (Nat.le_of_ble_eq_true rfl) (nd_flN q913) rfl ?_
    refine nd_iconst (v := 1) dX1_octet_20 (by decide) ?_
    refine nd_isub dX1_octet_21 ?_
    replace hf := caE hf
    obtain ⟨v7, h6, e_h6, hf⟩ := hf
    refine nd_Si [] (tX1_outside l w hfl F d e_h6) rfl dX1_octet_22 mw_X1_outside (Or.inl q676) q516 (by omega) (by omega) (Nat.le_of_ble_eq_true rfl) ?_
    refine nd_if_eq (tgt := 36) dX1_octet_25 (by decide) (fun c8 => ?_) (fun c8 => ?_)
    · replace hf := ifp c8 hf
      refine nd_aload_n (j := 1) dX1_octet_36 rfl rfl ?_
      refine nd_getP (k := 4) dX1_octet_37 k_this rfl (Nat.le_of_ble_eq_true rfl) (nd_flO q288) rfl (fun ok9 => ?_)
      replace hf := nnE hf
      obtain ⟨a10, e_a10, hf⟩ := hf
      refine nd_topr e_a10.symm ?_
      have k_a10 : nd_Kd a10 = 2 := nd_c1 (ok9 a10 e_a10)
      refine nd_getP (k := 2) dX1_octet_40 k_a10 rfl (Nat.le_of_ble_eq_true rfl) (nd_flN q206) rfl (fun ok11 => ?_)
      replace hf := nnE hf
      obtain ⟨a12, e_a12, hf⟩ := hf
      refine nd_topr e_a12.symm ?_
      have k_a12 : nd_Kd a12 = 20 := nd_c1 (ok11 a12 e_a12)
      refine nd_aload_n (j := 0) dX1_octet_43 rfl rfl ?_
      refine nd_getI (k := 2) dX1_octet_44 k_a4 rfl (Nat.le_of_ble_eq_true rfl) (nd_flN q916) rfl ?_
      refine nd_iload_n (j := 3) dX1_octet_47 rfl rfl ?_
      refine nd_iadd dX1_octet_48 ?_
      replace hf := ckE hf
      obtain ⟨c13, hf⟩ := hf
      refine nd_iald dX1_octet_49 k_a12 c13 ?_
      cases hf
      exact nd_iret (v := (gA h6 a12 (Int32.toNatClampNeg ((gI h6 1702 a4) + p1)))) dX1_octet_50
    · replace hf := ifn c8 hf
      exact nd_loc [] rfl (tX1_octet_28 l w hfl F d r _ hf)
def fX1_operation_34 (F d : Nat) (this : Nat) (x1 : Int32) (x2 : Int32) (x3 : Int32) (x4 : Int32) (s0 : Int32) (h : Hp) : Option ((Unit ⊕ Nat) × Hp) :=
  cx (fX1_need F d s0 h) fun _ h1 => (
  nn (gP h1 108 this) fun a4 => (
  cx (fX1_named F d this x2 h1) fun v6 h5 => (
  ck (inb x1 (nd_Ln a4)) (
  bn (sR h5 a4 (Int32.toNatClampNeg x1) v6) fun h9 => (
  nn (gP h9 109 this) fun a11 => (
  ck (inb x1 (nd_Ln a11)) (
  bn (sA h9 a11 (Int32.toNatClampNeg x1) x3) fun h13 => (
  nn (gP h13 110 this) fun a15 => (
  ck (inb x1 (nd_Ln a15)) (
  bn (sA h13 a15 (Int32.toNatClampNeg x1) x4) fun h17 => (
  some (.inl (), h17))))))))))))
def fX1_operation_33 (F d : Nat) (this : Nat) (x1 : Int32) (x2 : Int32) (x3 : Int32) (x4 : Int32) (h : Hp) : Option ((Unit ⊕ Nat) × Hp) :=
  fX1_operation_34 F d this x1 x2 x3 x4 0 h
def fX1_operation (F d : Nat) (this : Nat) (p0 : Int32) (p1 : Int32) (p2 : Int32) (p3 : Int32) (h : Hp) : Option ((Unit ⊕ Nat) × Hp) :=
  ca (fX1_outside F d p0 0 7 h) fun v2 h1 => (
  if v2 = 0 then
  (ca (fX1_outside F d p2 0 2 h1) fun v5 h4 => (
  if v5 = 0 then
  (ca (fX1_outside F d p3 1 2 h4) fun v8 h7 => (
  if v8 = 0 then
  (fX1_operation_34 F d this p0 p1 p2 p3 1 h7)
  else
  (fX1_operation_33 F d this p0 p1 p2 p3 h7)))
  else
  (fX1_operation_33 F d this p0 p1 p2 p3 h4)))
  else
  (fX1_operation_33 F d this p0 p1 p2 p3 h1))
set_option maxHeartbeats 4000000 in
theorem tX1_operation_34 (l : Launch) (w : Wd) (hfl : l.stackTraces = false) (F d : Nat) (r : (Unit ⊕ Nat) × Hp) (this : Nat) (x1 : Int32) (x2 : Int32) (x3 : Int32) (x4 : Int32) (s0 : Int32) (k_this : nd_Kd this = 0) (h : Hp) (hf : fX1_operation_34 F d this x1 x2 x3 x4 s0 h = some r) : nd_V l w yX1_operation cX1_operation 5 none 7 122 (rxv r) h 34 [(0, vr (some this)), (1, vi x1), (2, vi x2), (3, vi x3), (4, vi x4)] [vi s0] := by
  unfold fX1_operation_34 at hf
  replace hf := cxE hf
  rcases hf with ⟨v2, h1, e_h1, hf⟩ | ⟨x_, h1, e_h1, rfl⟩
  rotate_left
  · exact nd_SvX [] (tX1_need l w hfl F d e_h1) rfl dX1_operation_34 mw_X1_need (Or.inl q804) q805 (by omega) (by omega) (Nat.le_of_ble_eq_true rfl) (by decide)
  refine nd_Sv [] (tX1_need l w hfl F d e_h1) rfl dX1_operation_34 mw_X1_need (Or.inl q804) q805 (by omega) (by omega) (Nat.le_of_ble_eq_true rfl) ?_
  refine nd_aload_n (j := 0) dX1_operation_37 rfl rfl ?_
  refine nd_getP (k := 8) dX1_operation_38 k_this rfl (Nat.le_of_ble_eq_true rfl) (nd_flO q292) rfl (fun ok3 => ?_)
  replace hf := nnE hf
  obtain ⟨a4, e_a4, hf⟩ := hf
  refine nd_topr e_a4.symm ?_
  have k_a4 : nd_Kd a4 = 24 := nd_c1 (ok3 a4 e_a4)
  refine nd_iload_n (j := 1) dX1_operation_41 rfl rfl ?_
  refine nd_aload_n (j := 0) dX1_operation_42 rfl rfl ?_
  refine nd_iload_n (j := 2) dX1_operation_43 rfl rfl ?_
  replace hf := cxE hf
  rcases hf with ⟨v6, h5, e_h5, hf⟩ | ⟨x_, h5, e_h5, rfl⟩
  rotate_left
  · exact nd_VvX [vi x1, vr (some a4)] (tX1_named l w hfl F d k_this e_h5) rfl dX1_operation_44 mw_X1_named (Or.inl q822) k_this rfl q824 qs18 (by omega) (by omega) (Nat.le_of_ble_eq_true rfl) (by decide)
  refine nd_Vr [vi x1, vr (some a4)] (tX1_named l w hfl F d k_this e_h5) rfl dX1_operation_44 mw_X1_named (Or.inl q822) k_this rfl q824 qs18 (by omega) (by omega) (Nat.le_of_ble_eq_true rfl) (fun ok7 => ?_)
  have ok_v6 : ∀ b, v6 = some b → [6, 7, 8, 9, 11, 12].contains (nd_Kd b) = true := fun b q => okT99 (ok7 b q)
  replace hf := ckE hf
  obtain ⟨c8, hf⟩ := hf
  refine nd_aast (t := 4) (C := "NotationDesk$Type") dX1_operation_47 k_a4 (by decide) (fun _ => rfl) c8 (fun b e => nd_asT (ok_v6 b e)) ?_
  replace hf := bnE hf
  obtain ⟨h9, e_h9, hf⟩ := hf
  refine nd_hp e_h9 ?_
  refine nd_aload_n (j := 0) dX1_operation_48 rfl rfl ?_
  refine nd_getP (k := 9) dX1_operation_49 k_this rfl (Nat.le_of_ble_eq_true rfl) (nd_flO q293) rfl (fun ok10 => ?_)
  replace hf := nnE hf
  obtain ⟨a11, e_a11, hf⟩ := hf
  refine nd_topr e_a11.symm ?_
  have k_a11 : nd_Kd a11 = 20 := nd_c1 (ok10 a11 e_a11)
  refine nd_iload_n (j := 1) dX1_operation_52 rfl rfl ?_
  refine nd_iload_n (j := 3) dX1_operation_53 rfl rfl ?_
  replace hf := ckE hf
  obtain ⟨c12, hf⟩ := hf
  refine nd_iast dX1_operation_54 k_a11 c12 ?_
  replace hf := bnE hf
  obtain ⟨h13, e_h13, hf⟩ := hf
  refine nd_hp e_h13 ?_
  refine nd_aload_n (j := 0) dX1_operation_55 rfl rfl ?_
  refine nd_getP (k := 10) dX1_operation_56 k_this rfl (Nat.le_of_ble_eq_true rfl) (nd_flO q294) rfl (fun ok14 => ?_)
  replace hf := nnE hf
  obtain ⟨a15, e_a15, hf⟩ := hf
  refine nd_topr e_a15.symm ?_
  have k_a15 : nd_Kd a15 = 20 := nd_c1 (ok14 a15 e_a15)
  refine nd_iload_n (j := 1) dX1_operation_59 rfl rfl ?_
  refine nd_iload (j := 4) dX1_operation_60 rfl ?_
  replace hf := ckE hf
  obtain ⟨c16, hf⟩ := hf
  refine nd_iast dX1_operation_62 k_a15 c16 ?_
  replace hf := bnE hf
  obtain ⟨h17, e_h17, hf⟩ := hf
  refine nd_hp e_h17 ?_
  cases hf
  exact nd_vret dX1_operation_63
set_option maxHeartbeats 4000000 in
theorem tX1_operation_33 (l : Launch) (w : Wd) (hfl : l.stackTraces = false) (F d : Nat) (r : (Unit ⊕ Nat) × Hp) (this : Nat) (x1 : Int32) (x2 : Int32) (x3 : Int32) (x4 : Int32) (k_this : nd_Kd this = 0) (h : Hp) (hf : fX1_operation_33 F d this x1 x2 x3 x4 h = some r) : nd_V l w yX1_operation cX1_operation 5 none 7 122 (rxv r) h 33 [(0, vr (some this)), (1, vi x1), (2, vi x2), (3, vi x3), (4, vi x4)] [] := by
  unfold fX1_operation_33 at hf
  refine nd_iconst (v := 0) dX1_operation_33 (by decide) ?_
  exact nd_loc [0, 1, 2, 3, 4] rfl (tX1_operation_34 l w hfl F d r _ _ _ _ _ _ k_this _ hf)
set_option maxHeartbeats 4000000 in
theorem tX1_operation (l : Launch) (w : Wd) (hfl : l.stackTraces = false) (F d : Nat) {this : Nat} {p0 : Int32} {p1 : Int32} {p2 : Int32} {p3 : Int32} (k_this : nd_Kd this = 0) {h : Hp} {r : (Unit ⊕ Nat) × Hp} (hf : fX1_operation F d this p0 p1 p2 p3 h = some r) : nd_C l w yX1_operation cX1_operation 5 none 7 122 [vr (some this), vi p0, vi p1, vi p2, vi p3] h (rxv r) := by
  refine nd_start (as := [vr (some this), vi p0, vi p1, vi p2, vi p3]) hfl (by decide) (Nat.le_of_ble_eq_true rfl) ?_
  unfold fX1_operation at hf
  refine nd_eqL (L' := [(0, vr (some this)), (1, vi p0), (2, vi p1), (3, vi p2), (4, vi p3)]) rfl ?_
  refine nd_iload_n (j := 1) dX1_operation_0 rfl rfl ?_
  refine nd_iconst (v := 0) dX1_operation_1 (by decide) ?_
  refine nd_bipush (v := 7) dX1_operation_2 (by decide) ?_
  replace hf := caE hf
  obtain ⟨v2, h1, e_h1, hf⟩ := hf
  refine nd_Si [] (tX1_outside l w hfl F d e_h1) rfl dX1_operation_4 mw_X1_outside (Or.inl q676) q516 (by omega) (by omega) (Nat.le_of_ble_eq_true rfl) ?_
  refine nd_if_ne (tgt := 33) dX1_operation_7 (by decide) (fun c3 => ?_) (fun c3 => ?_)
  · replace hf := ifn c3 hf
    exact nd_loc [0, 1, 2, 3, 4] rfl (tX1_operation_33 l w hfl F d r _ _ _ _ _ k_this _ hf)
  · replace hf := ifp c3 hf
    refine nd_iload_n (j := 3) dX1_operation_10 rfl rfl ?_
    refine nd_iconst (v := 0) dX1_operation_11 (by decide) ?_
    refine nd_iconst (v := 2) dX1_operation_12 (by decide) ?_
    replace hf := caE hf
    obtain ⟨v5, h4, e_h4, hf⟩ := hf
    refine nd_Si [] (tX1_outside l w hfl F d e_h4) rfl dX1_operation_13 mw_X1_outside (Or.inl q676) q516 (by omega) (by omega) (Nat.le_of_ble_eq_true rfl) ?_
    refine nd_if_ne (tgt := 33) dX1_operation_16 (by decide) (fun c6 => ?_) (fun c6 => ?_)
    · replace hf := ifn c6 hf
      exact nd_loc [0, 1, 2, 3, 4] rfl (tX1_operation_33 l w hfl F d r _ _ _ _ _ k_this _ hf)
    · replace hf := ifp c6 hf
      refine nd_iload (j := 4) dX1_operation_19 rfl ?_
      refine nd_iconst (v := 1) dX1_operation_21 (by decide) ?_
      refine nd_iconst (v := 2) dX1_operation_22 (by decide) ?_
      replace hf := caE hf
      obtain ⟨v8, h7, e_h7, hf⟩ := hf
      refine nd_Si [] (tX1_outside l w hfl F d e_h7) rfl dX1_operation_23 mw_X1_outside (Or.inl q676) q516 (by omega) (by omega) (Nat.le_of_ble_eq_true rfl) ?_
      refine nd_if_ne (tgt := 33) dX1_operation_26 (by decide) (fun c9 => ?_) (fun c9 => ?_)
      · replace hf := ifn c9 hf
        exact nd_loc [0, 1, 2, 3, 4] rfl (tX1_operation_33 l w hfl F d r _ _ _ _ _ k_this _ hf)
      · replace hf := ifp c9 hf
        refine nd_iconst (v := 1) dX1_operation_29 (by decide) ?_
        refine nd_goto (tgt := 34) dX1_operation_30 (by decide) ?_
        exact nd_loc [0, 1, 2, 3, 4] rfl (tX1_operation_34 l w hfl F d r _ _ _ _ _ _ k_this _ hf)
