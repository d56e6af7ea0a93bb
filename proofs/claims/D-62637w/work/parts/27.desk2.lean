set_option maxRecDepth 100000
def fX2_component_116 (F d : Nat) (x1 : Nat) (x2 : Nat) (h : Hp) : Option (Int32 × Hp) :=
  cv (fX10_put F d x1 x2 h) fun h1 => (
  some (1, h1))
def fX2_component_58 (F d : Nat) (this : Nat) (x1 : Nat) (x2 : Nat) (h : Hp) : Option (Int32 × Hp) :=
  nn (gP h 1100 x1) fun a2 => (
  ck (inb (gI h 1001 x1) (nd_Ln a2)) (
  if (gA h a2 (Int32.toNatClampNeg (gI h 1001 x1))) = 2 then
  (ca (fX2_number F d this h) fun v6 h5 => (
  if v6 = 0 then
  (some (0, h5))
  else
  (ca (v_holds F d x2 (gI h5 213 this) h5) fun v9 h8 => (
  if v9 = 0 then
  (ca (fX2_wrong F d this 4 ((gI h8 202 this) - 1) h8) fun v16 h15 => (
  ck (isB v16) (
  some (v16, h15))))
  else
  (nn (gP h8 1101 x1) fun a12 => (
  ck (inb (gI h8 1001 x1) (nd_Ln a12)) (
  bn (sA h8 a12 (Int32.toNatClampNeg (gI h8 1001 x1)) (gI h8 213 this)) fun h14 => (
  fX2_component_116 F d x1 x2 h14))))))))
  else
  (fX2_component_116 F d x1 x2 h)))
def fX2_component_35 (F d : Nat) (this : Nat) (x1 : Nat) (x2 : Nat) (s0 : Nat) (s1 : Int32) (s2 : Int32) (h : Hp) : Option (Int32 × Hp) :=
  ck (inb s1 (nd_Ln s0)) (
  bn (sA h s0 (Int32.toNatClampNeg s1) s2) fun h2 => (
  nn (gP h2 1100 x1) fun a4 => (
  ck (inb (gI h2 1001 x1) (nd_Ln a4)) (
  if (gA h2 a4 (Int32.toNatClampNeg (gI h2 1001 x1))) = 0 then
  (fX2_component_58 F d this x1 x2 h2)
  else
  (bn (sI h2 202 this ((gI h2 202 this) + 1)) fun h7 => (
  fX2_component_58 F d this x1 x2 h7))))))
def fX2_component (F d : Nat) (this : Nat) (p0 : Nat) (p1 : Nat) (h : Hp) : Option (Int32 × Hp) :=
  nn (gP h 1100 p0) fun a2 => (
  ca (fX2_look F d this h) fun v4 h3 => (
  if v4 = 63 then
  (fX2_component_35 F d this p0 p1 a2 (gI h 1001 p0) 1 h3)
  else
  (ca (fX2_look F d this h3) fun v7 h6 => (
  if v7 = 61 then
  (fX2_component_35 F d this p0 p1 a2 (gI h 1001 p0) 2 h6)
  else
  (fX2_component_35 F d this p0 p1 a2 (gI h 1001 p0) 0 h6)))))
set_option maxHeartbeats 4000000 in
theorem tX2_component_116 (l : Launch) (w : Wd) (hfl : l.stackTraces = false) (F d : Nat) (r : Int32 × Hp) (x1 : Nat) (x2 : Nat) (k_x1 : nd_Kd x1 = 7) (k_x2 : [6, 7, 8, 9, 11, 12].contains (nd_Kd x2) = true) (h : Hp) (hf : fX2_component_116 F d x1 x2 h = some r) : nd_V l w yX2_component cX2_component 3 (some .boolean) (2 + 8 * d) (51 + 400 * d) (.inl (some (vi r.1)), r.2) h 116 [(1, vr (some x1)), (2, vr (some x2))] [] := by
  unfold fX2_component_116 at hf
  refine nd_aload_n (j := 0) dX2_component_116 rfl rfl ?_
  refine nd_aload_n (j := 1) dX2_component_117 rfl rfl ?_
  replace hf := cvE hf
  obtain ⟨h1, e_h1, hf⟩ := hf
  refine nd_Uv [] (tX10_put l w hfl F d (by rw [k_x1]; rfl) k_x2 e_h1) rfl dX2_component_118 mw_X10_put q526 k_x1 rfl q527 (Or.inl q528) q530 q529 (by decide) mw_X10_put.2.2.2.2 (by omega) (by omega) (Nat.le_of_ble_eq_true rfl) ?_
  refine nd_iconst (v := 1) dX2_component_121 (by decide) ?_
  cases hf
  exact nd_zret (v := 1) (by decide) dX2_component_122
set_option maxHeartbeats 4000000 in
theorem tX2_component_58 (l : Launch) (w : Wd) (hfl : l.stackTraces = false) (F d : Nat) (r : Int32 × Hp) (this : Nat) (x1 : Nat) (x2 : Nat) (k_this : nd_Kd this = 1) (k_x1 : nd_Kd x1 = 7) (k_x2 : [6, 7, 8, 9, 11, 12].contains (nd_Kd x2) = true) (h : Hp) (hf : fX2_component_58 F d this x1 x2 h = some r) : nd_V l w yX2_component cX2_component 3 (some .boolean) (2 + 8 * d) (51 + 400 * d) (.inl (some (vi r.1)), r.2) h 58 [(0, vr (some this)), (1, vr (some x1)), (2, vr (some x2))] [] := by
  unfold fX2_component_58 at hf
  refine nd_aload_n (j := 1) dX2_component_58 rfl rfl ?_
  refine nd_getP (k := 2) dX2_component_59 k_x1 rfl (Nat.le_of_ble_eq_true rfl) (nd_flN q476) rfl (fun ok1 => ?_)
  replace hf := nnE hf
  obtain ⟨a2, e_a2, hf⟩ := hf
  refine nd_topr e_a2.symm ?_
  have k_a2 : nd_Kd a2 = 20 := nd_c1 (ok1 a2 e_a2)
  refine nd_aload_n (j := 1) dX2_component_62 rfl rfl ?_
  refine nd_getI (k := 1) dX2_component_63 k_x1 rfl (Nat.le_of_ble_eq_true rfl) (nd_flS q489 q488) rfl ?_
  replace hf := ckE hf
  obtain ⟨c3, hf⟩ := hf
  refine nd_iald dX2_component_66 k_a2 c3 ?_
  refine nd_iconst (v := 2) dX2_component_67 (by decide) ?_
  refine nd_icmp_ne (tgt := 116) dX2_component_68 (by decide) (fun c4 => ?_) (fun c4 => ?_)
  · replace hf := ifn c4 hf
    exact nd_loc [1, 2] rfl (tX2_component_116 l w hfl F d r _ _ k_x1 k_x2 _ hf)
  · replace hf := ifp c4 hf
    refine nd_aload_n (j := 0) dX2_component_71 rfl rfl ?_
    replace hf := caE hf
    obtain ⟨v6, h5, e_h5, hf⟩ := hf
    refine nd_Vi [] (tX2_number l w hfl F d k_this e_h5) rfl dX2_component_72 mw_X2_number (Or.inl q458) k_this rfl q460 qs11 (by omega) (by omega) (Nat.le_of_ble_eq_true rfl) ?_
    refine nd_if_ne (tgt := 80) dX2_component_75 (by decide) (fun c7 => ?_) (fun c7 => ?_)
    · replace hf := ifn c7 hf
      refine nd_aload_n (j := 2) dX2_component_80 rfl rfl ?_
      refine nd_aload_n (j := 0) dX2_component_81 rfl rfl ?_
      refine nd_getI (k := 13) dX2_component_82 k_this rfl (Nat.le_of_ble_eq_true rfl) (nd_flO q158) rfl ?_
      replace hf := caE hf
      obtain ⟨v9, h8, e_h8, hf⟩ := hf
      refine nd_v_holds [] (tv_holds l w hfl F d k_x2 e_h8) rfl dX2_component_85 q504 k_x2 (by omega) (by omega) (Nat.le_of_ble_eq_true rfl) ?_
      refine nd_if_ne (tgt := 103) dX2_component_88 (by decide) (fun c10 => ?_) (fun c10 => ?_)
      · replace hf := ifn c10 hf
        refine nd_aload_n (j := 1) dX2_component_103 rfl rfl ?_
        refine nd_getP (k := 3) dX2_component_104 k_x1 rfl (Nat.le_of_ble_eq_true rfl) (nd_flN q478) rfl (fun ok11 => ?_)
        replace hf := nnE hf
        obtain ⟨a12, e_a12, hf⟩ := hf
        refine nd_topr e_a12.symm ?_
        have k_a12 : nd_Kd a12 = 20 := nd_c1 (ok11 a12 e_a12)
        refine nd_aload_n (j := 1) dX2_component_107 rfl rfl ?_
        refine nd_getI (k := 1) dX2_component_108 k_x1 rfl (Nat.le_of_ble_eq_true rfl) (nd_flS q489 q488) rfl ?_
        refine nd_aload_n (j := 0) dX2_component_111 rfl rfl ?_
        refine nd_getI (k := 13) dX2_component_112 k_this rfl (Nat.le_of_ble_eq_true rfl) (nd_flO q158) rfl ?_
        replace hf := ckE hf
        obtain ⟨c13, hf⟩ := hf
        refine nd_iast dX2_component_115 k_a12 c13 ?_
        replace hf := bnE hf
        obtain ⟨h14, e_h14, hf⟩ := hf
        refine nd_hp e_h14 ?_
        exact nd_loc [1, 2] rfl (tX2_component_116 l w hfl F d r _ _ k_x1 k_x2 _ hf)
      · replace hf := ifp c10 hf
        refine nd_aload_n (j := 0) dX2_component_91 rfl rfl ?_
        refine nd_iconst (v := 4) dX2_component_92 (by decide) ?_
        refine nd_aload_n (j := 0) dX2_component_93 rfl rfl ?_
        refine nd_getI (k := 2) dX2_component_94 k_this rfl (Nat.le_of_ble_eq_true rfl) (nd_flO q145) rfl ?_
        refine nd_iconst (v := 1) dX2_component_97 (by decide) ?_
        refine nd_isub dX2_component_98 ?_
        replace hf := caE hf
        obtain ⟨v16, h15, e_h15, hf⟩ := hf
        refine nd_Vi [] (tX2_wrong l w hfl F d k_this e_h15) rfl dX2_component_99 mw_X2_wrong (Or.inl q357) k_this rfl q359 qs3 (by omega) (by omega) (Nat.le_of_ble_eq_true rfl) ?_
        replace hf := ckE hf
        obtain ⟨c17, hf⟩ := hf
        cases hf
        exact nd_zret (v := v16) c17 dX2_component_102
    · replace hf := ifp c7 hf
      refine nd_iconst (v := 0) dX2_component_78 (by decide) ?_
      cases hf
      exact nd_zret (v := 0) (by decide) dX2_component_79
set_option maxHeartbeats 4000000 in
theorem tX2_component_35 (l : Launch) (w : Wd) (hfl : l.stackTraces = false) (F d : Nat) (r : Int32 × Hp) (this : Nat) (x1 : Nat) (x2 : Nat) (s0 : Nat) (s1 : Int32) (s2 : Int32) (k_this : nd_Kd this = 1) (k_x1 : nd_Kd x1 = 7) (k_x2 : [6, 7, 8, 9, 11, 12].contains (nd_Kd x2) = true) (k_s0 : nd_Kd s0 = 20) (h : Hp) (hf : fX2_component_35 F d this x1 x2 s0 s1 s2 h = some r) : nd_V l w yX2_component cX2_component 3 (some .boolean) (2 + 8 * d) (51 + 400 * d) (.inl (some (vi r.1)), r.2) h 35 [(0, vr (some this)), (1, vr (some x1)), (2, vr (some x2))] [vi s2, vi s1, vr (some s0)] := by
  unfold fX2_component_35 at hf
  replace hf := ckE hf
  obtain ⟨c1, hf⟩ := hf
  refine nd_iast dX2_component_35 k_s0 c1 ?_
  replace hf := bnE hf
  obtain ⟨h2, e_h2, hf⟩ := hf
  refine nd_hp e_h2 ?_
  refine nd_aload_n (j := 1) dX2_component_36 rfl rfl ?_
  refine nd_getP (k := 2) dX2_component_37 k_x1 rfl (Nat.le_of_ble_eq_true rfl) (nd_flN q476) rfl (fun ok3 => ?_)
  replace hf := nnE hf
  obtain ⟨a4, e_a4, hf⟩ := hf
  refine nd_topr e_a4.symm ?_
  have k_a4 : nd_Kd a4 = 20 := nd_c1 (ok3 a4 e_a4)
  refine nd_aload_n (j := 1) dX2_component_40 rfl rfl ?_
  refine nd_getI (k := 1) dX2_component_41 k_x1 rfl (Nat.le_of_ble_eq_true rfl) (nd_flS q489 q488) rfl ?_
  replace hf := ckE hf
  obtain ⟨c5, hf⟩ := hf
  refine nd_iald dX2_component_44 k_a4 c5 ?_
  refine nd_if_eq (tgt := 58) dX2_component_45 (by decide) (fun c6 => ?_) (fun c6 => ?_)
  · replace hf := ifp c6 hf
    exact nd_loc [0, 1, 2] rfl (tX2_component_58 l w hfl F d r _ _ _ k_this k_x1 k_x2 _ hf)
  · replace hf := ifn c6 hf
    refine nd_aload_n (j := 0) dX2_component_48 rfl rfl ?_
    refine nd_dup dX2_component_49 rfl ?_
    refine nd_getI (k := 2) dX2_component_50 k_this rfl (Nat.le_of_ble_eq_true rfl) (nd_flO q145) rfl ?_
    refine nd_iconst (v := 1) dX2_component_53 (by decide) ?_
    refine nd_iadd dX2_component_54 ?_
    refine nd_putN (k := 2) dX2_component_55 k_this rfl (Nat.le_of_ble_eq_true rfl) (nd_flO q145) rfl rfl rfl ?_
    replace hf := bnE hf
    obtain ⟨h7, e_h7, hf⟩ := hf
    refine nd_hp e_h7 ?_
    exact nd_loc [0, 1, 2] rfl (tX2_component_58 l w hfl F d r _ _ _ k_this k_x1 k_x2 _ hf)
set_option maxHeartbeats 4000000 in
theorem tX2_component (l : Launch) (w : Wd) (hfl : l.stackTraces = false) (F d : Nat) {this : Nat} {p0 : Nat} {p1 : Nat} (k_this : nd_Kd this = 1) (k_p0 : nd_Kd p0 = 7) (k_p1 : [6, 7, 8, 9, 11, 12].contains (nd_Kd p1) = true) {h : Hp} {r : Int32 × Hp} (hf : fX2_component F d this p0 p1 h = some r) : nd_C l w yX2_component cX2_component 3 (some .boolean) (2 + 8 * d) (51 + 400 * d) [vr (some this), vr (some p0), vr (some p1)] h (.inl (some (vi r.1)), r.2) := by
  refine nd_start (as := [vr (some this), vr (some p0), vr (some p1)]) hfl (by decide) (Nat.le_of_ble_eq_true rfl) ?_
  unfold fX2_component at hf
  refine nd_eqL (L' := [(0, vr (some this)), (1, vr (some p0)), (2, vr (some p1))]) rfl ?_
  refine nd_aload_n (j := 1) dX2_component_0 rfl rfl ?_
  refine nd_getP (k := 2) dX2_component_1 k_p0 rfl (Nat.le_of_ble_eq_true rfl) (nd_flN q476) rfl (fun ok1 => ?_)
  replace hf := nnE hf
  obtain ⟨a2, e_a2, hf⟩ := hf
  refine nd_topr e_a2.symm ?_
  have k_a2 : nd_Kd a2 = 20 := nd_c1 (ok1 a2 e_a2)
  refine nd_aload_n (j := 1) dX2_component_4 rfl rfl ?_
  refine nd_getI (k := 1) dX2_component_5 k_p0 rfl (Nat.le_of_ble_eq_true rfl) (nd_flS q489 q488) rfl ?_
  refine nd_aload_n (j := 0) dX2_component_8 rfl rfl ?_
  replace hf := caE hf
  obtain ⟨v4, h3, e_h3, hf⟩ := hf
  refine nd_Vi [vi (gI h 1001 p0), vr (some a2)] (tX2_look l w hfl F d k_this e_h3) rfl dX2_component_9 mw_X2_look (Or.inl q353) k_this rfl q355 qs2 (by omega) (by omega) (Nat.le_of_ble_eq_true rfl) ?_
  refine nd_bipush (v := 63) dX2_component_12 (by decide) ?_
  refine nd_icmp_ne (tgt := 21) dX2_component_14 (by decide) (fun c5 => ?_) (fun c5 => ?_)
  · replace hf := ifn c5 hf
    refine nd_aload_n (j := 0) dX2_component_21 rfl rfl ?_
    replace hf := caE hf
    obtain ⟨v7, h6, e_h6, hf⟩ := hf
    refine nd_Vi [vi (gI h 1001 p0), vr (some a2)] (tX2_look l w hfl F d k_this e_h6) rfl dX2_component_22 mw_X2_look (Or.inl q353) k_this rfl q355 qs2 (by omega) (by omega) (Nat.le_of_ble_eq_true rfl) ?_
    refine nd_bipush (v := 61) dX2_component_25 (by decide) ?_
    refine nd_icmp_ne (tgt := 34) dX2_component_27 (by decide) (fun c8 => ?_) (fun c8 => ?_)
    · replace hf := ifn c8 hf
      refine nd_iconst (v := 0) dX2_component_34 (by decide) ?_
      exact nd_loc [0, 1, 2] rfl (tX2_component_35 l w hfl F d r _ _ _ _ _ _ k_this k_p0 k_p1 k_a2 _ hf)
    · replace hf := ifp c8 hf
      refine nd_iconst (v := 2) dX2_component_30 (by decide) ?_
      refine nd_goto (tgt := 35) dX2_component_31 (by decide) ?_
      exact nd_loc [0, 1, 2] rfl (tX2_component_35 l w hfl F d r _ _ _ _ _ _ k_this k_p0 k_p1 k_a2 _ hf)
  · replace hf := ifp c5 hf
    refine nd_iconst (v := 1) dX2_component_17 (by decide) ?_
    refine nd_goto (tgt := 35) dX2_component_18 (by decide) ?_
    exact nd_loc [0, 1, 2] rfl (tX2_component_35 l w hfl F d r _ _ _ _ _ _ k_this k_p0 k_p1 k_a2 _ hf)
def fX11_init (F d : Nat) (this : Nat) (h : Hp) : Option (Hp) :=
  cv (fX10_init F d this h) fun h1 => (
  bn (this + 2) fun n5 => (
  ck (freA h1 n5 20 6) (
  bn (nw h1 n5 6) fun h4 => (
  bn (sP h4 1100 this (some n5)) fun h6 => (
  bn (this + 3) fun n9 => (
  ck (freA h6 n9 20 6) (
  bn (nw h6 n9 6) fun h8 => (
  bn (sP h8 1101 this (some n9)) fun h10 => (
  some h10)))))))))
set_option maxHeartbeats 4000000 in
theorem tX11_init (l : Launch) (w : Wd) (hfl : l.stackTraces = false) (F d : Nat) {this : Nat} (k_this : nd_Kd this = 7) {h : Hp} {r : Hp} (hf : fX11_init F d this h = some r) : nd_C l w yX11_init cX11_init 1 none 3 80 [vr (some this)] h (.inl none, r) := by
  refine nd_start (as := [vr (some this)]) hfl (by decide) (Nat.le_of_ble_eq_true rfl) ?_
  unfold fX11_init at hf
  refine nd_eqL (L' := [(0, vr (some this))]) rfl ?_
  refine nd_aload_n (j := 0) dX11_init_0 rfl rfl ?_
  replace hf := cvE hf
  obtain ⟨h1, e_h1, hf⟩ := hf
  refine nd_Iv [] (tX10_init l w hfl F d (by rw [k_this]; rfl) e_h1) rfl dX11_init_1 mw_X10_init (Or.inr ⟨_, q470⟩) q471 rfl (by omega) (by omega) (Nat.le_of_ble_eq_true rfl) ?_
  refine nd_aload_n (j := 0) dX11_init_4 rfl rfl ?_
  refine nd_bipush (v := 6) dX11_init_5 (by decide) ?_
  replace hf := bnE hf
  obtain ⟨n5, e_n5, hf⟩ := hf
  replace hf := ckE hf
  obtain ⟨c3, hf⟩ := hf
  refine nd_newI (n := n5) (z := 6) dX11_init_7 (by decide +kernel) (by decide) (Nat.le_of_ble_eq_true rfl) c3 ?_
  replace hf := bnE hf
  obtain ⟨h4, e_h4, hf⟩ := hf
  refine nd_hp e_h4 ?_
  have k_n5 : nd_Kd n5 = 20 := (freAE c3).2.1
  refine nd_putF (k := 2) (f := 1100) dX11_init_9 k_this rfl (Nat.le_of_ble_eq_true rfl) q475 rfl rfl rfl rfl rfl (fun b e => by cases e; rw [k_n5]; rfl) ?_
  replace hf := bnE hf
  obtain ⟨h6, e_h6, hf⟩ := hf
  refine nd_hp e_h6 ?_
  refine nd_aload_n (j := 0) dX11_init_12 rfl rfl ?_
  refine nd_bipush (v := 6) dX11_init_13 (by decide) ?_
  replace hf := bnE hf
  obtain ⟨n9, e_n9, hf⟩ := hf
  replace hf := ckE hf
  obtain ⟨c7, hf⟩ := hf
  refine nd_newI (n := n9) (z := 6) dX11_init_15 (by decide +kernel) (by decide) (Nat.le_of_ble_eq_true rfl) c7 ?_
  replace hf := bnE hf
  obtain ⟨h8, e_h8, hf⟩ := hf
  refine nd_hp e_h8 ?_
  have k_n9 : nd_Kd n9 = 20 := (freAE c7).2.1
  refine nd_putF (k := 3) (f := 1101) dX11_init_17 k_this rfl (Nat.le_of_ble_eq_true rfl) q477 rfl rfl rfl rfl rfl (fun b e => by cases e; rw [k_n9]; rfl) ?_
  replace hf := bnE hf
  obtain ⟨h10, e_h10, hf⟩ := hf
  refine nd_hp e_h10 ?_
  cases hf
  exact nd_vret dX11_init_20
def fX11_isDistinct_57 (F d : Nat) (k_2 : Nat → Int32 → Hp → Option (Int32 × Hp)) (this : Nat) (x1 : Int32) (h : Hp) : Option (Int32 × Hp) :=
  bn (x1 + 1) fun v1 => (
  k_2 this v1 h)
def fX11_isDistinct_14 (F d : Nat) (k_2 : Nat → Int32 → Hp → Option (Int32 × Hp)) : Nat → Nat → Int32 → Int32 → Hp → Option (Int32 × Hp)
  | 0, _, _, _, _ => none
  | n + 1, this, x1, x2, h =>
    if x2 < 0 then
    (fX11_isDistinct_57 F d k_2 this x1 h)
    else
    (nn (gP h 1100 this) fun a3 => (
    ck (inb x2 (nd_Ln a3)) (
    if (gA h a3 (Int32.toNatClampNeg x2)) = 0 then
    (fX11_isDistinct_57 F d k_2 this x1 h)
    else
    (nn (gP h 1000 this) fun a7 => (
    ck (inb x2 (nd_Ln a7)) (
    bn (gR h a7 (Int32.toNatClampNeg x2)) fun o10 => (
    nn o10 fun a11 => (
    ca (v_tags F d a11 h) fun v13 h12 => (
    nn (gP h12 1000 this) fun a15 => (
    ck (inb x1 (nd_Ln a15)) (
    bn (gR h12 a15 (Int32.toNatClampNeg x1)) fun o18 => (
    nn o18 fun a19 => (
    ca (v_tags F d a19 h12) fun v21 h20 => (
    if (v13 &&& v21) = 0 then
    (bn (x2 + (-1)) fun v23 => (
    fX11_isDistinct_14 F d k_2 n this x1 v23 h20))
    else
    (some (0, h20))))))))))))))))
def fX11_isDistinct_2 (F d : Nat) : Nat → Nat → Int32 → Hp → Option (Int32 × Hp)
  | 0, _, _, _ => none
  | n + 1, this, x1, h =>
    if (gI h 1001 this) ≤ x1 then
    (some (1, h))
    else
    (bn (x1 - 1) fun v2 => (
    fX11_isDistinct_14 F d (fX11_isDistinct_2 F d n) F this x1 v2 h))
def fX11_isDistinct (F d : Nat) (this : Nat) (h : Hp) : Option (Int32 × Hp) :=
  fX11_isDistinct_2 F d F this 0 h
set_option maxHeartbeats 4000000 in
theorem tX11_isDistinct_57 (l : Launch) (w : Wd) (hfl : l.stackTraces = false) (F d : Nat) (r : Int32 × Hp) (k_2 : Nat → Int32 → Hp → Option (Int32 × Hp)) (hk_2 : ∀ (this : Nat) (x1 : Int32) (k_this : nd_Kd this = 7) (h : Hp), k_2 this x1 h = some r → nd_V l w yX11_isDistinct cX11_isDistinct 3 (some .boolean) (2 + 8 * d) (52 + 400 * d) (.inl (some (vi r.1)), r.2) h 2 [(0, vr (some this)), (1, vi x1)] []) (this : Nat) (x1 : Int32) (k_this : nd_Kd this = 7) (h : Hp) (hf : fX11_isDistinct_57 F d k_2 this x1 h = some r) : nd_V l w yX11_isDistinct cX11_isDistinct 3 (some .boolean) (2 + 8 * d) (52 + 400 * d) (.inl (some (vi r.1)), r.2) h 57 [(0, vr (some this)), (1, vi x1)] [] := by
  unfold fX11_isDistinct_57 at hf
  replace hf := bnE hf
  obtain ⟨v1, e_v1, hf⟩ := hf
  refine nd_iinc (v := v1) (j := 1) [(1, vi v1), (0, vr (some this))] dX11_isDistinct_57 rfl (by rw [e_v1]; rfl) (Nat.le_of_ble_eq_true rfl) rfl ?_
  refine nd_goto (tgt := 2) dX11_isDistinct_60 (by decide) ?_
  exact nd_loc [1, 0] rfl (hk_2 _ _ k_this _ hf)
set_option maxHeartbeats 4000000 in
theorem tX11_isDistinct_14 (l : Launch) (w : Wd) (hfl : l.stackTraces = false) (F d : Nat) (r : Int32 × Hp) (k_2 : Nat → Int32 → Hp → Option (Int32 × Hp)) (hk_2 : ∀ (this : Nat) (x1 : Int32) (k_this : nd_Kd this = 7) (h : Hp), k_2 this x1 h = some r → nd_V l w yX11_isDistinct cX11_isDistinct 3 (some .boolean) (2 + 8 * d) (52 + 400 * d) (.inl (some (vi r.1)), r.2) h 2 [(0, vr (some this)), (1, vi x1)] []) : ∀ (n : Nat) (this : Nat) (x1 : Int32) (x2 : Int32) (k_this : nd_Kd this = 7) (h : Hp), fX11_isDistinct_14 F d k_2 n this x1 x2 h = some r → nd_V l w yX11_isDistinct cX11_isDistinct 3 (some .boolean) (2 + 8 * d) (52 + 400 * d) (.inl (some (vi r.1)), r.2) h 14 [(0, vr (some this)), (1, vi x1), (2, vi x2)] [] := by
  intro n
  induction n with
  | zero => intro _ _ _ _ _ hf; cases hf
  | succ n ih =>
    intro this x1 x2 k_this h hf
    unfold fX11_isDistinct_14 at hf
    refine nd_iload_n (j := 2) dX11_isDistinct_14 rfl rfl ?_
    refine nd_if_lt (tgt := 57) dX11_isDistinct_15 (by decide) (fun c1 => ?_) (fun c1 => ?_)
    · replace hf := ifp c1 hf
      exact nd_loc [0, 1] rfl (tX11_isDistinct_57 l w hfl F d r k_2 hk_2 _ _ k_this _ hf)
    · replace hf := ifn c1 hf
      refine nd_aload_n (j := 0) dX11_isDistinct_18 rfl rfl ?_
      refine nd_getP (k := 2) dX11_isDistinct_19 k_this rfl (Nat.le_of_ble_eq_true rfl) (nd_flO q475) rfl (fun ok2 => ?_)
      replace hf := nnE hf
      obtain ⟨a3, e_a3, hf⟩ := hf
      refine nd_topr e_a3.symm ?_
      have k_a3 : nd_Kd a3 = 20 := nd_c1 (ok2 a3 e_a3)
      refine nd_iload_n (j := 2) dX11_isDistinct_22 rfl rfl ?_
      replace hf := ckE hf
      obtain ⟨c4, hf⟩ := hf
      refine nd_iald dX11_isDistinct_23 k_a3 c4 ?_
      refine nd_if_eq (tgt := 57) dX11_isDistinct_24 (by decide) (fun c5 => ?_) (fun c5 => ?_)
      · replace hf := ifp c5 hf
        exact nd_loc [0, 1] rfl (tX11_isDistinct_57 l w hfl F d r k_2 hk_2 _ _ k_this _ hf)
      · replace hf := ifn c5 hf
        refine nd_aload_n (j := 0) dX11_isDistinct_27 rfl rfl ?_
        refine nd_getP (k := 0) dX11_isDistinct_28 k_this rfl (Nat.le_of_ble_eq_true rfl) (nd_flS q482 q483) rfl (fun ok6 => ?_)
        replace hf := nnE hf
        obtain ⟨a7, e_a7, hf⟩ := hf
        refine nd_topr e_a7.symm ?_
        have k_a7 : nd_Kd a7 = 24 := nd_c1 (ok6 a7 e_a7)
        refine nd_iload_n (j := 2) dX11_isDistinct_31 rfl rfl ?_
        replace hf := ckE hf
        obtain ⟨c8, hf⟩ := hf
        refine nd_aald (t := 4) (C := "NotationDesk$Type") dX11_isDistinct_32 k_a7 (by decide) (fun _ => rfl) c8 (fun ok9 => ?_)
        replace hf := bnE hf
        obtain ⟨o10, e_o10, hf⟩ := hf
        refine nd_topr e_o10 ?_
        have ok_o10 : ∀ b, o10 = some b → [6, 7, 8, 9, 11, 12].contains (nd_Kd b) = true := fun b q => ok9 b (e_o10 ▸ q)
        replace hf := nnE hf
        obtain ⟨a11, e_a11, hf⟩ := hf
        have k_a11 : [6, 7, 8, 9, 11, 12].contains (nd_Kd a11) = true := ok_o10 a11 e_a11
        subst e_a11
        replace hf := caE hf
        obtain ⟨v13, h12, e_h12, hf⟩ := hf
        refine nd_v_tags [] (tv_tags l w hfl F d k_a11 e_h12) rfl dX11_isDistinct_33 q540 k_a11 (by omega) (by omega) (Nat.le_of_ble_eq_true rfl) ?_
        refine nd_aload_n (j := 0) dX11_isDistinct_36 rfl rfl ?_
        refine nd_getP (k := 0) dX11_isDistinct_37 k_this rfl (Nat.le_of_ble_eq_true rfl) (nd_flS q482 q483) rfl (fun ok14 => ?_)
        replace hf := nnE hf
        obtain ⟨a15, e_a15, hf⟩ := hf
        refine nd_topr e_a15.symm ?_
        have k_a15 : nd_Kd a15 = 24 := nd_c1 (ok14 a15 e_a15)
        refine nd_iload_n (j := 1) dX11_isDistinct_40 rfl rfl ?_
        replace hf := ckE hf
        obtain ⟨c16, hf⟩ := hf
        refine nd_aald (t := 4) (C := "NotationDesk$Type") dX11_isDistinct_41 k_a15 (by decide) (fun _ => rfl) c16 (fun ok17 => ?_)
        replace hf := bnE hf
        obtain ⟨o18, e_o18, hf⟩ := hf
        refine nd_topr e_o18 ?_
        have ok_o18 : ∀ b, o18 = some b → [6, 7, 8, 9, 11, 12].contains (nd_Kd b) = true := fun b q => ok17 b (e_o18 ▸ q)
        replace hf := nnE hf
        obtain ⟨a19, e_a19, hf⟩ := hf
        have k_a19 : [6, 7, 8, 9, 11, 12].contains (nd_Kd a19) = true := ok_o18 a19 e_a19
        subst e_a19
        replace hf := caE hf
        obtain ⟨v21, h20, e_h20, hf⟩ := hf
        refine nd_v_tags [vi v13] (tv_tags l w hfl F d k_a19 e_h20) rfl dX11_isDistinct_42 q540 k_a19 (by omega) (by omega) (Nat.le_of_ble_eq_true rfl) ?_
        refine nd_iand dX11_isDistinct_45 ?_
        refine nd_if_eq (tgt := 51) dX11_isDistinct_46 (by decide) (fun c22 => ?_) (fun c22 => ?_)
        · replace hf := ifp c22 hf
          replace hf := bnE hf
          obtain ⟨v23, e_v23, hf⟩ := hf
          refine nd_iinc (v := v23) (j := 2) [(2, vi v23), (0, vr (some this)), (1, vi x1)] dX11_isDistinct_51 rfl (by rw [e_v23]; rfl) (Nat.le_of_ble_eq_true rfl) rfl ?_
          refine nd_goto (tgt := 14) dX11_isDistinct_54 (by decide) ?_
          exact nd_loc [1, 2, 0] rfl (ih _ _ _ k_this _ hf)
        · replace hf := ifn c22 hf
          refine nd_iconst (v := 0) dX11_isDistinct_49 (by decide) ?_
          cases hf
          exact nd_zret (v := 0) (by decide) dX11_isDistinct_50
set_option maxHeartbeats 4000000 in
theorem tX11_isDistinct_2 (l : Launch) (w : Wd) (hfl : l.stackTraces = false) (F d : Nat) (r : Int32 × Hp) : ∀ (n : Nat) (this : Nat) (x1 : Int32) (k_this : nd_Kd this = 7) (h : Hp), fX11_isDistinct_2 F d n this x1 h = some r → nd_V l w yX11_isDistinct cX11_isDistinct 3 (some .boolean) (2 + 8 * d) (52 + 400 * d) (.inl (some (vi r.1)), r.2) h 2 [(0, vr (some this)), (1, vi x1)] [] := by
  intro n
  induction n with
  | zero => intro _ _ _ _ hf; cases hf
  | succ n ih =>
    intro this x1 k_this h hf
    unfold fX11_isDistinct_2 at hf
    refine nd_iload_n (j := 1) dX11_isDistinct_2 rfl rfl ?_
    refine nd_aload_n (j := 0) dX11_isDistinct_3 rfl rfl ?_
    refine nd_getI (k := 1) dX11_isDistinct_4 k_this rfl (Nat.le_of_ble_eq_true rfl) (nd_flS q487 q488) rfl ?_
    refine nd_icmp_ge (tgt := 63) dX11_isDistinct_7 (by decide) (fun c1 => ?_) (fun c1 => ?_)
    · replace hf := ifp c1 hf
      refine nd_iconst (v := 1) dX11_isDistinct_63 (by decide) ?_
      cases hf
      exact nd_zret (v := 1) (by decide) dX11_isDistinct_64
    · replace hf := ifn c1 hf
      refine nd_iload_n (j := 1) dX11_isDistinct_10 rfl rfl ?_
      refine nd_iconst (v := 1) dX11_isDistinct_11 (by decide) ?_
      refine nd_isub dX11_isDistinct_12 ?_
      replace hf := bnE hf
      obtain ⟨v2, e_v2, hf⟩ := hf
      refine nd_top e_v2 ?_
      refine nd_istore_n [(2, vi v2), (0, vr (some this)), (1, vi x1)] dX11_isDistinct_13 rfl (Nat.le_of_ble_eq_true rfl) rfl ?_
      exact nd_loc [1, 2, 0] rfl (tX11_isDistinct_14 l w hfl F d r (fX11_isDistinct_2 F d n) ih F _ _ _ k_this _ hf)
set_option maxHeartbeats 4000000 in
theorem tX11_isDistinct (l : Launch) (w : Wd) (hfl : l.stackTraces = false) (F d : Nat) {this : Nat} (k_this : nd_Kd this = 7) {h : Hp} {r : Int32 × Hp} (hf : fX11_isDistinct F d this h = some r) : nd_C l w yX11_isDistinct cX11_isDistinct 3 (some .boolean) (2 + 8 * d) (52 + 400 * d) [vr (some this)] h (.inl (some (vi r.1)), r.2) := by
  refine nd_start (as := [vr (some this)]) hfl (by decide) (Nat.le_of_ble_eq_true rfl) ?_
  unfold fX11_isDistinct at hf
  refine nd_eqL (L' := [(0, vr (some this))]) rfl ?_
  refine nd_iconst (v := 0) dX11_isDistinct_0 (by decide) ?_
  refine nd_istore_n [(1, vi 0), (0, vr (some this))] dX11_isDistinct_1 rfl (Nat.le_of_ble_eq_true rfl) rfl ?_
  exact nd_loc [1, 0] rfl (tX11_isDistinct_2 l w hfl F d r F _ _ k_this _ hf)
def fX2_sequenceOf_115 (F d : Nat) (R_typeOf : Nat → Int32 → Hp → Option (Option Nat × Hp)) (k_61 : Nat → Int32 → Nat → Int32 → Hp → Option (Option Nat × Hp)) (x0 : Nat) (x2 : Int32) (x3 : Nat) (x4 : Int32) (h : Hp) : Option (Option Nat × Hp) :=
  k_61 x0 x2 x3 x4 h
def fX2_sequenceOf_61 (F d : Nat) (R_typeOf : Nat → Int32 → Hp → Option (Option Nat × Hp)) : Nat → Nat → Int32 → Nat → Int32 → Hp → Option (Option Nat × Hp)
  | 0, _, _, _, _, _ => none
  | n + 1, x0, x2, x3, x4, h =>
    if x4 = 0 then
    (if 0 < (gI h 203 x0) then
    (some (none, h))
    else
    (ca (fX2_expect F d x0 125 h) fun v4 h3 => (
    if v4 = 0 then
    (some (none, h3))
    else
    (ca (fX11_isDistinct F d x3 h3) fun v7 h6 => (
    if v7 = 0 then
    (ca (fX2_noType F d x0 6 ((gI h6 202 x0) - 1) h6) fun v10 h9 => (
    some (v10, h9)))
    else
    (some ((some x3), h6)))))))
    else
    (ca (R_typeOf x0 x2 h) fun v13 h12 => (
    oc v13
    (some (none, h12))
    (fun a15 =>
    ca (fX2_component F d x0 x3 a15 h12) fun v17 h16 => (
    if v17 = 0 then
    (some (none, h16))
    else
    (ca (fX2_another F d x0 (gI h16 1001 x3) h16) fun v20 h19 => (
    if v20 = 0 then
    (fX2_sequenceOf_115 F d R_typeOf (fX2_sequenceOf_61 F d R_typeOf n) x0 x2 x3 v20 h19)
    else
    (bn (sI h19 202 x0 ((gI h19 202 x0) + 1)) fun h22 => (
    fX2_sequenceOf_115 F d R_typeOf (fX2_sequenceOf_61 F d R_typeOf n) x0 x2 x3 v20 h22))))))))
def fX2_sequenceOf_59 (F d : Nat) (R_typeOf : Nat → Int32 → Hp → Option (Option Nat × Hp)) (x0 : Nat) (x2 : Int32) (x3 : Nat) (s0 : Int32) (h : Hp) : Option (Option Nat × Hp) :=
  fX2_sequenceOf_61 F d R_typeOf F x0 x2 x3 s0 h
def fX2_sequenceOf_22 (F d : Nat) (R_typeOf : Nat → Int32 → Hp → Option (Option Nat × Hp)) (x0 : Nat) (x1 : Int32) (x2 : Int32) (h : Hp) : Option (Option Nat × Hp) :=
  nn (gP h 207 x0) fun a2 => (
  ck (inb x1 (nd_Ln a2)) (
  bn (gR h a2 (Int32.toNatClampNeg x1)) fun o5 => (
  nn o5 fun a6 => (
  bn (sI h 1001 a6 0) fun h7 => (
  ca (fX2_expect F d x0 123 h7) fun v9 h8 => (
  if v9 = 0 then
  (some (none, h8))
  else
  (ca (fX2_look F d x0 h8) fun v12 h11 => (
  if v12 = 125 then
  (fX2_sequenceOf_59 F d R_typeOf x0 x2 a6 0 h11)
  else
  (fX2_sequenceOf_59 F d R_typeOf x0 x2 a6 1 h11)))))))))
def fX2_sequenceOf (F d : Nat) (R_typeOf : Nat → Int32 → Hp → Option (Option Nat × Hp)) (p0 : Nat) (p1 : Int32) (p2 : Int32) (h : Hp) : Option (Option Nat × Hp) :=
  nn (gP h 207 p0) fun a2 => (
  ck (inb p1 (nd_Ln a2)) (
  bn (gR h a2 (Int32.toNatClampNeg p1)) fun o5 => (
  oc o5
  (nn (gP h 207 p0) fun a8 => (
  bn (nd_tn 3 p1) fun n11 => (
  ck (fre h n11 7) (
  bn (nw h n11 4) fun h10 => (
  cv (fX11_init F d n11 h10) fun h12 => (
  ck (inb p1 (nd_Ln a8)) (
  bn (sR h12 a8 (Int32.toNatClampNeg p1) (some n11)) fun h15 => (
  fX2_sequenceOf_22 F d R_typeOf p0 p1 p2 h15))))))))
  (fun a6 =>
  fX2_sequenceOf_22 F d R_typeOf p0 p1 p2 h))))
set_option maxHeartbeats 4000000 in
theorem tX2_sequenceOf_115 (l : Launch) (w : Wd) (hfl : l.stackTraces = false) (F d : Nat) (R_typeOf : Nat → Int32 → Hp → Option (Option Nat × Hp)) (hR_typeOf : ∀ {p0 : Nat} {p1 : Int32} (k_p0 : nd_Kd p0 = 1) {h : Hp} {r : Option Nat × Hp}, R_typeOf p0 p1 h = some r → nd_C l w yX2_typeOf cX2_typeOf 6 (some (.object "NotationDesk$Type")) (1 + 8 * d) (30 + 400 * d) [vr (some p0), vi p1] h (.inl (some (vr r.1)), r.2)) (r : Option Nat × Hp) (k_61 : Nat → Int32 → Nat → Int32 → Hp → Option (Option Nat × Hp)) (hk_61 : ∀ (x0 : Nat) (x2 : Int32) (x3 : Nat) (x4 : Int32) (k_x0 : nd_Kd x0 = 1) (k_x3 : nd_Kd x3 = 7) (h : Hp), k_61 x0 x2 x3 x4 h = some r → nd_V l w yX2_sequenceOf cX2_sequenceOf 6 (some (.object "NotationDesk$Type")) (4 + 8 * d) (100 + 400 * d) (.inl (some (vr r.1)), r.2) h 61 [(0, vr (some x0)), (2, vi x2), (3, vr (some x3)), (4, vi x4)] []) (x0 : Nat) (x2 : Int32) (x3 : Nat) (x4 : Int32) (k_x0 : nd_Kd x0 = 1) (k_x3 : nd_Kd x3 = 7) (h : Hp) (hf : fX2_sequenceOf_115 F d R_typeOf k_61 x0 x2 x3 x4 h = some r) : nd_V l w yX2_sequenceOf cX2_sequenceOf 6 (some (.object "NotationDesk$Type")) (4 + 8 * d) (100 + 400 * d) (.inl (some (vr r.1)), r.2) h 115 [(0, vr (some x0)), (2, vi x2), (3, vr (some x3)), (4, vi x4)] [] := by
  unfold fX2_sequenceOf_115 at hf
  refine nd_goto (tgt := 61) dX2_sequenceOf_115 (by decide) ?_
  exact nd_loc [0, 1, 2, 3] rfl (hk_61 _ _ _ _ k_x0 k_x3 _ hf)
set_option maxHeartbeats 4000000 in
theorem tX2_sequenceOf_61 (l : Launch) (w : Wd) (hfl : l.stackTraces = false) (F d : Nat) (R_typeOf : Nat → Int32 → Hp → Option (Option Nat × Hp)) (hR_typeOf : ∀ {p0 : Nat} {p1 : Int32} (k_p0 : nd_Kd p0 = 1) {h : Hp} {r : Option Nat × Hp}, R_typeOf p0 p1 h = some r → nd_C l w yX2_typeOf cX2_typeOf 6 (some (.object "NotationDesk$Type")) (1 + 8 * d) (30 + 400 * d) [vr (some p0), vi p1] h (.inl (some (vr r.1)), r.2)) (r : Option Nat × Hp) : ∀ (n : Nat) (x0 : Nat) (x2 : Int32) (x3 : Nat) (x4 : Int32) (k_x0 : nd_Kd x0 = 1) (k_x3 : nd_Kd x3 = 7) (h : Hp), fX2_sequenceOf_61 F d R_typeOf n x0 x2 x3 x4 h = some r → nd_V l w yX2_sequenceOf cX2_sequenceOf 6 (some (.object "NotationDesk$Type")) (4 + 8 * d) (100 + 400 * d) (.inl (some (vr r.1)), r.2) h 61 [(0, vr (some x0)), (2, vi x2), (3, vr (some x3)), (4, vi x4)] [] := by
  intro n
  induction n with
  | zero => intro _ _ _ _ _ _ _ hf; cases hf
  | succ n ih =>
    intro x0 x2 x3 x4 k_x0 k_x3 h hf
    unfold fX2_sequenceOf_61 at hf
    refine nd_iload (j := 3) dX2_sequenceOf_61 rfl ?_
    refine nd_if_eq (tgt := 118) dX2_sequenceOf_63 (by decide) (fun c1 => ?_) (fun c1 => ?_)
    · replace hf := ifp c1 hf
      refine nd_aload_n (j := 0) dX2_sequenceOf_118 rfl rfl ?_
      refine nd_getI (k := 3) dX2_sequenceOf_119 k_x0 rfl (Nat.le_of_ble_eq_true rfl) (nd_flO q146) rfl ?_
      refine nd_if_gt (tgt := 134) dX2_sequenceOf_122 (by decide) (fun c2 => ?_) (fun c2 => ?_)
      · replace hf := ifp c2 hf
        refine nd_null dX2_sequenceOf_134 ?_
        cases hf
        exact nd_aret (fun b e => by cases e) dX2_sequenceOf_135
      · replace hf := ifn c2 hf
        refine nd_aload_n (j := 0) dX2_sequenceOf_125 rfl rfl ?_
        refine nd_bipush (v := 125) dX2_sequenceOf_126 (by decide) ?_
        replace hf := caE hf
        obtain ⟨v4, h3, e_h3, hf⟩ := hf
        refine nd_Vi [] (tX2_expect l w hfl F d k_x0 e_h3) rfl dX2_sequenceOf_128 mw_X2_expect (Or.inl q361) k_x0 rfl q363 qs4 (by omega) (by omega) (Nat.le_of_ble_eq_true rfl) ?_
        refine nd_if_ne (tgt := 136) dX2_sequenceOf_131 (by decide) (fun c5 => ?_) (fun c5 => ?_)
        · replace hf := ifn c5 hf
          refine nd_aload_n (j := 2) dX2_sequenceOf_136 rfl rfl ?_
          replace hf := caE hf
          obtain ⟨v7, h6, e_h6, hf⟩ := hf
          refine nd_Vi [] (tX11_isDistinct l w hfl F d k_x3 e_h6) rfl dX2_sequenceOf_137 mw_X11_isDistinct (Or.inl q536) k_x3 rfl q537 q538 (by omega) (by omega) (Nat.le_of_ble_eq_true rfl) ?_
          refine nd_if_eq (tgt := 147) dX2_sequenceOf_140 (by decide) (fun c8 => ?_) (fun c8 => ?_)
          · replace hf := ifp c8 hf
            refine nd_aload_n (j := 0) dX2_sequenceOf_147 rfl rfl ?_
            refine nd_bipush (v := 6) dX2_sequenceOf_148 (by decide) ?_
            refine nd_aload_n (j := 0) dX2_sequenceOf_150 rfl rfl ?_
            refine nd_getI (k := 2) dX2_sequenceOf_151 k_x0 rfl (Nat.le_of_ble_eq_true rfl) (nd_flO q145) rfl ?_
            refine nd_iconst (v := 1) dX2_sequenceOf_154 (by decide) ?_
            refine nd_isub dX2_sequenceOf_155 ?_
            replace hf := caE hf
            obtain ⟨v10, h9, e_h9, hf⟩ := hf
            refine nd_Vr [] (tX2_noType l w hfl F d k_x0 e_h9) rfl dX2_sequenceOf_156 mw_X2_noType (Or.inl q382) k_x0 rfl q384 qs7 (by omega) (by omega) (Nat.le_of_ble_eq_true rfl) (fun ok11 => ?_)
            have ok_v10 : ∀ b, v10 = some b → [6, 7, 8, 9, 11, 12].contains (nd_Kd b) = true := fun b q => okT99 (ok11 b q)
            cases hf
            exact nd_aret (fun b e => okT99' (ok_v10 b e)) dX2_sequenceOf_159
          · replace hf := ifn c8 hf
            refine nd_aload_n (j := 2) dX2_sequenceOf_143 rfl rfl ?_
            refine nd_goto (tgt := 159) dX2_sequenceOf_144 (by decide) ?_
            cases hf
            exact nd_aret (fun b e => by cases e; exact okT99' (by rw [k_x3]; rfl)) dX2_sequenceOf_159
        · replace hf := ifp c5 hf
          refine nd_null dX2_sequenceOf_134 ?_
          cases hf
          exact nd_aret (fun b e => by cases e) dX2_sequenceOf_135
    · replace hf := ifn c1 hf
      refine nd_aload_n (j := 0) dX2_sequenceOf_66 rfl rfl ?_
      refine nd_iload_n (j := 1) dX2_sequenceOf_67 rfl rfl ?_
      replace hf := caE hf
      obtain ⟨v13, h12, e_h12, hf⟩ := hf
      refine nd_Sr [] (hR_typeOf k_x0 e_h12) rfl dX2_sequenceOf_68 mw_X2_typeOf (Or.inl q365) q366 (by omega) (by omega) (Nat.le_of_ble_eq_true rfl) (fun ok14 => ?_)
      have ok_v13 : ∀ b, v13 = some b → [6, 7, 8, 9, 11, 12].contains (nd_Kd b) = true := fun b q => okT99 (ok14 b q)
      refine nd_astore [(5, vr v13), (0, vr (some x0)), (2, vi x2), (3, vr (some x3)), (4, vi x4)] dX2_sequenceOf_71 (Nat.le_of_ble_eq_true rfl) rfl ?_
      refine nd_aload (j := 0) dX2_sequenceOf_73 rfl ?_
      refine nd_ifnull (tgt := 88) dX2_sequenceOf_75 (by decide) (fun e_a15 => ?_) (fun a15 e_a15 => ?_)
      · replace hf := ocN e_a15 hf
        subst e_a15
        refine nd_null dX2_sequenceOf_88 ?_
        cases hf
        exact nd_aret (fun b e => by cases e) dX2_sequenceOf_89
      · replace hf := ocS e_a15 hf
        have k_a15 : [6, 7, 8, 9, 11, 12].contains (nd_Kd a15) = true := ok_v13 a15 e_a15
        subst e_a15
        refine nd_aload_n (j := 1) dX2_sequenceOf_78 rfl rfl ?_
        refine nd_aload_n (j := 3) dX2_sequenceOf_79 rfl rfl ?_
        refine nd_aload (j := 0) dX2_sequenceOf_80 rfl ?_
        replace hf := caE hf
        obtain ⟨v17, h16, e_h16, hf⟩ := hf
        refine nd_Vi [] (tX2_component l w hfl F d k_x0 k_x3 k_a15 e_h16) rfl dX2_sequenceOf_82 mw_X2_component (Or.inl q500) k_x0 rfl q502 qs12 (by omega) (by omega) (Nat.le_of_ble_eq_true rfl) ?_
        refine nd_if_ne (tgt := 90) dX2_sequenceOf_85 (by decide) (fun c18 => ?_) (fun c18 => ?_)
        · replace hf := ifn c18 hf
          refine nd_aload_n (j := 1) dX2_sequenceOf_90 rfl rfl ?_
          refine nd_aload_n (j := 3) dX2_sequenceOf_91 rfl rfl ?_
          refine nd_getI (k := 1) dX2_sequenceOf_92 k_x3 rfl (Nat.le_of_ble_eq_true rfl) (nd_flS q489 q488) rfl ?_
          replace hf := caE hf
          obtain ⟨v20, h19, e_h19, hf⟩ := hf
          refine nd_Vi [] (tX2_another l w hfl F d k_x0 e_h19) rfl dX2_sequenceOf_95 mw_X2_another (Or.inl q532) k_x0 rfl q534 qs14 (by omega) (by omega) (Nat.le_of_ble_eq_true rfl) ?_
          refine nd_istore [(4, vi v20), (5, vr (some a15)), (0, vr (some x0)), (2, vi x2), (3, vr (some x3))] dX2_sequenceOf_98 (Nat.le_of_ble_eq_true rfl) rfl ?_
          refine nd_iload (j := 0) dX2_sequenceOf_100 rfl ?_
          refine nd_if_eq (tgt := 115) dX2_sequenceOf_102 (by decide) (fun c21 => ?_) (fun c21 => ?_)
          · replace hf := ifp c21 hf
            exact nd_loc [2, 3, 4, 0] rfl (tX2_sequenceOf_115 l w hfl F d R_typeOf hR_typeOf r (fX2_sequenceOf_61 F d R_typeOf n) ih _ _ _ _ k_x0 k_x3 _ hf)
          · replace hf := ifn c21 hf
            refine nd_aload_n (j := 2) dX2_sequenceOf_105 rfl rfl ?_
            refine nd_dup dX2_sequenceOf_106 rfl ?_
            refine nd_getI (k := 2) dX2_sequenceOf_107 k_x0 rfl (Nat.le_of_ble_eq_true rfl) (nd_flO q145) rfl ?_
            refine nd_iconst (v := 1) dX2_sequenceOf_110 (by decide) ?_
            refine nd_iadd dX2_sequenceOf_111 ?_
            refine nd_putN (k := 2) dX2_sequenceOf_112 k_x0 rfl (Nat.le_of_ble_eq_true rfl) (nd_flO q145) rfl rfl rfl ?_
            replace hf := bnE hf
            obtain ⟨h22, e_h22, hf⟩ := hf
            refine nd_hp e_h22 ?_
            exact nd_loc [2, 3, 4, 0] rfl (tX2_sequenceOf_115 l w hfl F d R_typeOf hR_typeOf r (fX2_sequenceOf_61 F d R_typeOf n) ih _ _ _ _ k_x0 k_x3 _ hf)
        · replace hf := ifp c18 hf
          refine nd_null dX2_sequenceOf_88 ?_
          cases hf
          exact nd_aret (fun b e => by cases e) dX2_sequenceOf_89
set_option maxHeartbeats 4000000 in
theorem tX2_sequenceOf_59 (l : Launch) (w : Wd) (hfl : l.stackTraces = false) (F d : Nat) (R_typeOf : Nat → Int32 → Hp → Option (Option Nat × Hp)) (hR_typeOf : ∀ {p0 : Nat} {p1 : Int32} (k_p0 : nd_Kd p0 = 1) {h : Hp} {r : Option Nat × Hp}, R_typeOf p0 p1 h = some r → nd_C l w yX2_typeOf cX2_typeOf 6 (some (.object "NotationDesk$Type")) (1 + 8 * d) (30 + 400 * d) [vr (some p0), vi p1] h (.inl (some (vr r.1)), r.2)) (r : Option Nat × Hp) (x0 : Nat) (x2 : Int32) (x3 : Nat) (s0 : Int32) (k_x0 : nd_Kd x0 = 1) (k_x3 : nd_Kd x3 = 7) (h : Hp) (hf : fX2_sequenceOf_59 F d R_typeOf x0 x2 x3 s0 h = some r) : nd_V l w yX2_sequenceOf cX2_sequenceOf 6 (some (.object "NotationDesk$Type")) (4 + 8 * d) (100 + 400 * d) (.inl (some (vr r.1)), r.2) h 59 [(0, vr (some x0)), (2, vi x2), (3, vr (some x3))] [vi s0] := by
  unfold fX2_sequenceOf_59 at hf
  refine nd_istore [(4, vi s0), (0, vr (some x0)), (2, vi x2), (3, vr (some x3))] dX2_sequenceOf_59 (Nat.le_of_ble_eq_true rfl) rfl ?_
  exact nd_loc [1, 2, 3, 0] rfl (tX2_sequenceOf_61 l w hfl F d R_typeOf hR_typeOf r F _ _ _ _ k_x0 k_x3 _ hf)
set_option maxHeartbeats 4000000 in
theorem tX2_sequenceOf_22 (l : Launch) (w : Wd) (hfl : l.stackTraces = false) (F d : Nat) (R_typeOf : Nat → Int32 → Hp → Option (Option Nat × Hp)) (hR_typeOf : ∀ {p0 : Nat} {p1 : Int32} (k_p0 : nd_Kd p0 = 1) {h : Hp} {r : Option Nat × Hp}, R_typeOf p0 p1 h = some r → nd_C l w yX2_typeOf cX2_typeOf 6 (some (.object "NotationDesk$Type")) (1 + 8 * d) (30 + 400 * d) [vr (some p0), vi p1] h (.inl (some (vr r.1)), r.2)) (r : Option Nat × Hp) (x0 : Nat) (x1 : Int32) (x2 : Int32) (k_x0 : nd_Kd x0 = 1) (h : Hp) (hf : fX2_sequenceOf_22 F d R_typeOf x0 x1 x2 h = some r) : nd_V l w yX2_sequenceOf cX2_sequenceOf 6 (some (.object "NotationDesk$Type")) (4 + 8 * d) (100 + 400 * d) (.inl (some (vr r.1)), r.2) h 22 [(0, vr (some x0)), (1, vi x1), (2, vi x2)] [] := by
  unfold fX2_sequenceOf_22 at hf
  refine nd_aload_n (j := 0) dX2_sequenceOf_22 rfl rfl ?_
  refine nd_getP (k := 7) dX2_sequenceOf_23 k_x0 rfl (Nat.le_of_ble_eq_true rfl) (nd_flO q152) rfl (fun ok1 => ?_)
  replace hf := nnE hf
  obtain ⟨a2, e_a2, hf⟩ := hf
  refine nd_topr e_a2.symm ?_
  have k_a2 : nd_Kd a2 = 27 := nd_c1 (ok1 a2 e_a2)
  refine nd_iload_n (j := 1) dX2_sequenceOf_26 rfl rfl ?_
  replace hf := ckE hf
  obtain ⟨c3, hf⟩ := hf
  refine nd_aald (t := 7) (C := "NotationDesk$Sequence") dX2_sequenceOf_27 k_a2 (by decide) (fun _ => rfl) c3 (fun ok4 => ?_)
  replace hf := bnE hf
  obtain ⟨o5, e_o5, hf⟩ := hf
  refine nd_topr e_o5 ?_
  have ok_o5 : ∀ b, o5 = some b → [7].contains (nd_Kd b) = true := fun b q => ok4 b (e_o5 ▸ q)
  refine nd_astore_n [(3, vr o5), (0, vr (some x0)), (1, vi x1), (2, vi x2)] dX2_sequenceOf_28 rfl (Nat.le_of_ble_eq_true rfl) rfl ?_
  refine nd_aload_n (j := 0) dX2_sequenceOf_29 rfl rfl ?_
  refine nd_iconst (v := 0) dX2_sequenceOf_30 (by decide) ?_
  replace hf := nnE hf
  obtain ⟨a6, e_a6, hf⟩ := hf
  have k_a6 : nd_Kd a6 = 7 := nd_c1 (ok_o5 a6 e_a6)
  subst e_a6
  refine nd_putN (k := 1) dX2_sequenceOf_31 k_a6 rfl (Nat.le_of_ble_eq_true rfl) (nd_flS q489 q488) rfl rfl rfl ?_
  replace hf := bnE hf
  obtain ⟨h7, e_h7, hf⟩ := hf
  refine nd_hp e_h7 ?_
  refine nd_aload_n (j := 1) dX2_sequenceOf_34 rfl rfl ?_
  refine nd_bipush (v := 123) dX2_sequenceOf_35 (by decide) ?_
  replace hf := caE hf
  obtain ⟨v9, h8, e_h8, hf⟩ := hf
  refine nd_Vi [] (tX2_expect l w hfl F d k_x0 e_h8) rfl dX2_sequenceOf_37 mw_X2_expect (Or.inl q361) k_x0 rfl q363 qs4 (by omega) (by omega) (Nat.le_of_ble_eq_true rfl) ?_
  refine nd_if_ne (tgt := 45) dX2_sequenceOf_40 (by decide) (fun c10 => ?_) (fun c10 => ?_)
  · replace hf := ifn c10 hf
    refine nd_aload_n (j := 1) dX2_sequenceOf_45 rfl rfl ?_
    replace hf := caE hf
    obtain ⟨v12, h11, e_h11, hf⟩ := hf
    refine nd_Vi [] (tX2_look l w hfl F d k_x0 e_h11) rfl dX2_sequenceOf_46 mw_X2_look (Or.inl q353) k_x0 rfl q355 qs2 (by omega) (by omega) (Nat.le_of_ble_eq_true rfl) ?_
    refine nd_bipush (v := 125) dX2_sequenceOf_49 (by decide) ?_
    refine nd_icmp_eq (tgt := 58) dX2_sequenceOf_51 (by decide) (fun c13 => ?_) (fun c13 => ?_)
    · replace hf := ifp c13 hf
      refine nd_iconst (v := 0) dX2_sequenceOf_58 (by decide) ?_
      exact nd_loc [1, 3, 0] rfl (tX2_sequenceOf_59 l w hfl F d R_typeOf hR_typeOf r _ _ _ _ k_x0 k_a6 _ hf)
    · replace hf := ifn c13 hf
      refine nd_iconst (v := 1) dX2_sequenceOf_54 (by decide) ?_
      refine nd_goto (tgt := 59) dX2_sequenceOf_55 (by decide) ?_
      exact nd_loc [1, 3, 0] rfl (tX2_sequenceOf_59 l w hfl F d R_typeOf hR_typeOf r _ _ _ _ k_x0 k_a6 _ hf)
  · replace hf := ifp c10 hf
    refine nd_null dX2_sequenceOf_43 ?_
    cases hf
    exact nd_aret (fun b e => by cases e) dX2_sequenceOf_44
set_option maxHeartbeats 4000000 in
theorem tX2_sequenceOf (l : Launch) (w : Wd) (hfl : l.stackTraces = false) (F d : Nat) (R_typeOf : Nat → Int32 → Hp → Option (Option Nat × Hp)) (hR_typeOf : ∀ {p0 : Nat} {p1 : Int32} (k_p0 : nd_Kd p0 = 1) {h : Hp} {r : Option Nat × Hp}, R_typeOf p0 p1 h = some r → nd_C l w yX2_typeOf cX2_typeOf 6 (some (.object "NotationDesk$Type")) (1 + 8 * d) (30 + 400 * d) [vr (some p0), vi p1] h (.inl (some (vr r.1)), r.2)) {p0 : Nat} {p1 : Int32} {p2 : Int32} (k_p0 : nd_Kd p0 = 1) {h : Hp} {r : Option Nat × Hp} (hf : fX2_sequenceOf F d R_typeOf p0 p1 p2 h = some r) : nd_C l w yX2_sequenceOf cX2_sequenceOf 6 (some (.object "NotationDesk$Type")) (4 + 8 * d) (100 + 400 * d) [vr (some p0), vi p1, vi p2] h (.inl (some (vr r.1)), r.2) := by
  refine nd_start (as := [vr (some p0), vi p1, vi p2]) hfl (by decide) (Nat.le_of_ble_eq_true rfl) ?_
  unfold fX2_sequenceOf at hf
  refine nd_eqL (L' := [(0, vr (some p0)), (1, vi p1), (2, vi p2)]) rfl ?_
  refine nd_aload_n (j := 0) dX2_sequenceOf_0 rfl rfl ?_
  refine nd_getP (k := 7) dX2_sequenceOf_1 k_p0 rfl (Nat.le_of_ble_eq_true rfl) (nd_flO q152) rfl (fun ok1 => ?_)
  replace hf := nnE hf
  obtain ⟨a2, e_a2, hf⟩ := hf
  refine nd_topr e_a2.symm ?_
  have k_a2 : nd_Kd a2 = 27 := nd_c1 (ok1 a2 e_a2)
  refine nd_iload_n (j := 1) dX2_sequenceOf_4 rfl rfl ?_
  replace hf := ckE hf
  obtain ⟨c3, hf⟩ := hf
  refine nd_aald (t := 7) (C := "NotationDesk$Sequence") dX2_sequenceOf_5 k_a2 (by decide) (fun _ => rfl) c3 (fun ok4 => ?_)
  replace hf := bnE hf
  obtain ⟨o5, e_o5, hf⟩ := hf
  refine nd_topr e_o5 ?_
  have ok_o5 : ∀ b, o5 = some b → [7].contains (nd_Kd b) = true := fun b q => ok4 b (e_o5 ▸ q)
  refine nd_ifnonnull (tgt := 22) dX2_sequenceOf_6 (by decide) (fun e_a6 => ?_) (fun a6 e_a6 => ?_)
  · replace hf := ocN e_a6 hf
    subst e_a6
    refine nd_aload_n (j := 0) dX2_sequenceOf_9 rfl rfl ?_
    refine nd_getP (k := 7) dX2_sequenceOf_10 k_p0 rfl (Nat.le_of_ble_eq_true rfl) (nd_flO q152) rfl (fun ok7 => ?_)
    replace hf := nnE hf
    obtain ⟨a8, e_a8, hf⟩ := hf
    refine nd_topr e_a8.symm ?_
    have k_a8 : nd_Kd a8 = 27 := nd_c1 (ok7 a8 e_a8)
    refine nd_iload_n (j := 1) dX2_sequenceOf_13 rfl rfl ?_
    replace hf := bnE hf
    obtain ⟨n11, e_n11, hf⟩ := hf
    replace hf := ckE hf
    obtain ⟨c9, hf⟩ := hf
    refine nd_newO (ci := 7) (n := n11) dX2_sequenceOf_14 rfl q133 q466 q96 c9 ?_
    replace hf := bnE hf
    obtain ⟨h10, e_h10, hf⟩ := hf
    refine nd_hp e_h10 ?_
    have k_n11 : nd_Kd n11 = 7 := (freE c9).2
    refine nd_dup dX2_sequenceOf_17 rfl ?_
    replace hf := cvE hf
    obtain ⟨h12, e_h12, hf⟩ := hf
    refine nd_Iv [vr (some n11), vi p1, vr (some a8)] (tX11_init l w hfl F d k_n11 e_h12) rfl dX2_sequenceOf_18 mw_X11_init (Or.inr ⟨_, q467⟩) q468 rfl (by omega) (by omega) (Nat.le_of_ble_eq_true rfl) ?_
    replace hf := ckE hf
    obtain ⟨c14, hf⟩ := hf
    refine nd_aast (t := 7) (C := "NotationDesk$Sequence") dX2_sequenceOf_21 k_a8 (by decide) (fun _ => rfl) c14 (fun b e => by cases e; exact nd_asX7 k_n11) ?_
    replace hf := bnE hf
    obtain ⟨h15, e_h15, hf⟩ := hf
    refine nd_hp e_h15 ?_
    exact nd_loc [0, 1, 2] rfl (tX2_sequenceOf_22 l w hfl F d R_typeOf hR_typeOf r _ _ _ k_p0 _ hf)
  · replace hf := ocS e_a6 hf
    have k_a6 : nd_Kd a6 = 7 := nd_c1 (ok_o5 a6 e_a6)
    subst e_a6
    exact nd_loc [0, 1, 2] rfl (tX2_sequenceOf_22 l w hfl F d R_typeOf hR_typeOf r _ _ _ k_p0 _ hf)
def fX15_init (F d : Nat) (this : Nat) (h : Hp) : Option (Hp) :=
  cv (fX7_init F d this h) fun h1 => (
  bn (this + 1) fun n5 => (
  ck (fre h1 n5 10) (
  bn (nw h1 n5 3) fun h4 => (
  cv (fX14_init F d n5 h4) fun h6 => (
  bn (sP h6 1500 this (some n5)) fun h8 => (
  some h8))))))
set_option maxHeartbeats 4000000 in
theorem tX15_init (l : Launch) (w : Wd) (hfl : l.stackTraces = false) (F d : Nat) {this : Nat} (k_this : nd_Kd this = 11) {h : Hp} {r : Hp} (hf : fX15_init F d this h = some r) : nd_C l w yX15_init cX15_init 1 none 2 60 [vr (some this)] h (.inl none, r) := by
  refine nd_start (as := [vr (some this)]) hfl (by decide) (Nat.le_of_ble_eq_true rfl) ?_
  unfold fX15_init at hf
  refine nd_eqL (L' := [(0, vr (some this))]) rfl ?_
  refine nd_aload_n (j := 0) dX15_init_0 rfl rfl ?_
  replace hf := cvE hf
  obtain ⟨h1, e_h1, hf⟩ := hf
  refine nd_Iv [] (tX7_init l w hfl F d (by rw [k_this]; rfl) e_h1) rfl dX15_init_1 mw_X7_init (Or.inr ⟨_, q629⟩) q421 rfl (by omega) (by omega) (Nat.le_of_ble_eq_true rfl) ?_
  refine nd_aload_n (j := 0) dX15_init_4 rfl rfl ?_
  replace hf := bnE hf
  obtain ⟨n5, e_n5, hf⟩ := hf
  replace hf := ckE hf
  obtain ⟨c3, hf⟩ := hf
  refine nd_newO (ci := 10) (n := n5) dX15_init_5 rfl q630 q590 q99 c3 ?_
  replace hf := bnE hf
  obtain ⟨h4, e_h4, hf⟩ := hf
  refine nd_hp e_h4 ?_
  have k_n5 : nd_Kd n5 = 10 := (freE c3).2
  refine nd_dup dX15_init_8 rfl ?_
  replace hf := cvE hf
  obtain ⟨h6, e_h6, hf⟩ := hf
  refine nd_Iv [vr (some n5), vr (some this)] (tX14_init l w hfl F d k_n5 e_h6) rfl dX15_init_9 mw_X14_init (Or.inr ⟨_, q631⟩) q592 rfl (by omega) (by omega) (Nat.le_of_ble_eq_true rfl) ?_
  refine nd_putF (k := 0) (f := 1500) dX15_init_12 k_this rfl (Nat.le_of_ble_eq_true rfl) q632 rfl rfl rfl rfl rfl (fun b e => by cases e; rw [k_n5]; rfl) ?_
  replace hf := bnE hf
  obtain ⟨h8, e_h8, hf⟩ := hf
  refine nd_hp e_h8 ?_
  cases hf
  exact nd_vret dX15_init_15
def fX2_seriesOf_50 (F d : Nat) (R_typeOf : Nat → Int32 → Hp → Option (Option Nat × Hp)) (x3 : Nat) (s0 : Nat) (s1 : Option Nat) (h : Hp) : Option (Option Nat × Hp) :=
  bn (sP h 1501 s0 s1) fun h1 => (
  bn (gP h1 1501 x3) fun o3 => (
  oc o3
  (some (none, h1))
  (fun a4 =>
  some ((some x3), h1))))
def fX2_seriesOf_22 (F d : Nat) (R_typeOf : Nat → Int32 → Hp → Option (Option Nat × Hp)) (x0 : Nat) (x1 : Int32) (x2 : Int32) (h : Hp) : Option (Option Nat × Hp) :=
  nn (gP h 208 x0) fun a2 => (
  ck (inb x1 (nd_Ln a2)) (
  bn (gR h a2 (Int32.toNatClampNeg x1)) fun o5 => (
  nn o5 fun a6 => (
  nn (gP h 1500 a6) fun a8 => (
  ca (fX2_bounded F d x0 a8 h) fun v10 h9 => (
  if v10 = 0 then
  (fX2_seriesOf_50 F d R_typeOf a6 a6 none h9)
  else
  (ca (R_typeOf x0 x2 h9) fun v13 h12 => (
  fX2_seriesOf_50 F d R_typeOf a6 a6 v13 h12))))))))
def fX2_seriesOf (F d : Nat) (R_typeOf : Nat → Int32 → Hp → Option (Option Nat × Hp)) (p0 : Nat) (p1 : Int32) (p2 : Int32) (h : Hp) : Option (Option Nat × Hp) :=
  nn (gP h 208 p0) fun a2 => (
  ck (inb p1 (nd_Ln a2)) (
  bn (gR h a2 (Int32.toNatClampNeg p1)) fun o5 => (
  oc o5
  (nn (gP h 208 p0) fun a8 => (
  bn (nd_tn 4 p1) fun n11 => (
  ck (fre h n11 11) (
  bn (nw h n11 2) fun h10 => (
  cv (fX15_init F d n11 h10) fun h12 => (
  ck (inb p1 (nd_Ln a8)) (
  bn (sR h12 a8 (Int32.toNatClampNeg p1) (some n11)) fun h15 => (
  fX2_seriesOf_22 F d R_typeOf p0 p1 p2 h15))))))))
  (fun a6 =>
  fX2_seriesOf_22 F d R_typeOf p0 p1 p2 h))))
set_option maxHeartbeats 4000000 in
theorem tX2_seriesOf_50 (l : Launch) (w : Wd) (hfl : l.stackTraces = false) (F d : Nat) (R_typeOf : Nat → Int32 → Hp → Option (Option Nat × Hp)) (hR_typeOf : ∀ {p0 : Nat} {p1 : Int32} (k_p0 : nd_Kd p0 = 1) {h : Hp} {r : Option Nat × Hp}, R_typeOf p0 p1 h = some r → nd_C l w yX2_typeOf cX2_typeOf 6 (some (.object "NotationDesk$Type")) (1 + 8 * d) (30 + 400 * d) [vr (some p0), vi p1] h (.inl (some (vr r.1)), r.2)) (r : Option Nat × Hp) (x3 : Nat) (s0 : Nat) (s1 : Option Nat) (k_x3 : nd_Kd x3 = 11) (k_s0 : nd_Kd s0 = 11) (ok_s1 : ∀ b, s1 = some b → [6, 7, 8, 9, 11, 12].contains (nd_Kd b) = true) (h : Hp) (hf : fX2_seriesOf_50 F d R_typeOf x3 s0 s1 h = some r) : nd_V l w yX2_seriesOf cX2_seriesOf 4 (some (.object "NotationDesk$Type")) (4 + 8 * d) (87 + 400 * d) (.inl (some (vr r.1)), r.2) h 50 [(3, vr (some x3))] [vr s1, vr (some s0)] := by
  unfold fX2_seriesOf_50 at hf
  refine nd_putP (k := 1) (f := 1501) dX2_seriesOf_50 k_s0 rfl (Nat.le_of_ble_eq_true rfl) (nd_flN q635) rfl rfl rfl rfl ok_s1 ?_
  replace hf := bnE hf
  obtain ⟨h1, e_h1, hf⟩ := hf
  refine nd_hp e_h1 ?_
  refine nd_aload_n (j := 0) dX2_seriesOf_53 rfl rfl ?_
  refine nd_getP (k := 1) dX2_seriesOf_54 k_x3 rfl (Nat.le_of_ble_eq_true rfl) (nd_flN q635) rfl (fun ok2 => ?_)
  replace hf := bnE hf
  obtain ⟨o3, e_o3, hf⟩ := hf
  refine nd_topr e_o3 ?_
  have ok_o3 : ∀ b, o3 = some b → [6, 7, 8, 9, 11, 12].contains (nd_Kd b) = true := fun b q => ok2 b (e_o3 ▸ q)
  refine nd_ifnonnull (tgt := 64) dX2_seriesOf_57 (by decide) (fun e_a4 => ?_) (fun a4 e_a4 => ?_)
  · replace hf := ocN e_a4 hf
    subst e_a4
    refine nd_null dX2_seriesOf_60 ?_
    refine nd_goto (tgt := 65) dX2_seriesOf_61 (by decide) ?_
    cases hf
    exact nd_aret (fun b e => by cases e) dX2_seriesOf_65
  · replace hf := ocS e_a4 hf
    have k_a4 : [6, 7, 8, 9, 11, 12].contains (nd_Kd a4) = true := ok_o3 a4 e_a4
    subst e_a4
    refine nd_aload_n (j := 0) dX2_seriesOf_64 rfl rfl ?_
    cases hf
    exact nd_aret (fun b e => by cases e; exact okT99' (by rw [k_x3]; rfl)) dX2_seriesOf_65
set_option maxHeartbeats 4000000 in
theorem tX2_seriesOf_22 (l : Launch) (w : Wd) (hfl : l.stackTraces = false) (F d : Nat) (R_typeOf : Nat → Int32 → Hp → Option (Option Nat × Hp)) (hR_typeOf : ∀ {p0 : Nat} {p1 : Int32} (k_p0 : nd_Kd p0 = 1) {h : Hp} {r : Option Nat × Hp}, R_typeOf p0 p1 h = some r → nd_C l w yX2_typeOf cX2_typeOf 6 (some (.object "NotationDesk$Type")) (1 + 8 * d) (30 + 400 * d) [vr (some p0), vi p1] h (.inl (some (vr r.1)), r.2)) (r : Option Nat × Hp) (x0 : Nat) (x1 : Int32) (x2 : Int32) (k_x0 : nd_Kd x0 = 1) (h : Hp) (hf : fX2_seriesOf_22 F d R_typeOf x0 x1 x2 h = some r) : nd_V l w yX2_seriesOf cX2_seriesOf 4 (some (.object "NotationDesk$Type")) (4 + 8 * d) (87 + 400 * d) (.inl (some (vr r.1)), r.2) h 22 [(0, vr (some x0)), (1, vi x1), (2, vi x2)] [] := by
  unfold fX2_seriesOf_22 at hf
  refine nd_aload_n (j := 0) dX2_seriesOf_22 rfl rfl ?_
  refine nd_getP (k := 8) dX2_seriesOf_23 k_x0 rfl (Nat.le_of_ble_eq_true rfl) (nd_flO q153) rfl (fun ok1 => ?_)
  replace hf := nnE hf
  obtain ⟨a2, e_a2, hf⟩ := hf
  refine nd_topr e_a2.symm ?_
  have k_a2 : nd_Kd a2 = 28 := nd_c1 (ok1 a2 e_a2)
  refine nd_iload_n (j := 1) dX2_seriesOf_26 rfl rfl ?_
  replace hf := ckE hf
  obtain ⟨c3, hf⟩ := hf
  refine nd_aald (t := 8) (C := "NotationDesk$Series") dX2_seriesOf_27 k_a2 (by decide) (fun _ => rfl) c3 (fun ok4 => ?_)
  replace hf := bnE hf
  obtain ⟨o5, e_o5, hf⟩ := hf
  refine nd_topr e_o5 ?_
  have ok_o5 : ∀ b, o5 = some b → [11].contains (nd_Kd b) = true := fun b q => ok4 b (e_o5 ▸ q)
  refine nd_astore_n [(3, vr o5), (0, vr (some x0)), (1, vi x1), (2, vi x2)] dX2_seriesOf_28 rfl (Nat.le_of_ble_eq_true rfl) rfl ?_
  refine nd_aload_n (j := 0) dX2_seriesOf_29 rfl rfl ?_
  refine nd_aload_n (j := 1) dX2_seriesOf_30 rfl rfl ?_
  refine nd_aload_n (j := 0) dX2_seriesOf_31 rfl rfl ?_
  replace hf := nnE hf
  obtain ⟨a6, e_a6, hf⟩ := hf
  have k_a6 : nd_Kd a6 = 11 := nd_c1 (ok_o5 a6 e_a6)
  subst e_a6
  refine nd_getP (k := 0) dX2_seriesOf_32 k_a6 rfl (Nat.le_of_ble_eq_true rfl) (nd_flN q633) rfl (fun ok7 => ?_)
  replace hf := nnE hf
  obtain ⟨a8, e_a8, hf⟩ := hf
  refine nd_topr e_a8.symm ?_
  have k_a8 : nd_Kd a8 = 10 := nd_c1 (ok7 a8 e_a8)
  replace hf := caE hf
  obtain ⟨v10, h9, e_h9, hf⟩ := hf
  refine nd_Vi [vr (some a6)] (tX2_bounded l w hfl F d k_x0 k_a8 e_h9) rfl dX2_seriesOf_35 mw_X2_bounded (Or.inl q614) k_x0 rfl q616 qs16 (by omega) (by omega) (Nat.le_of_ble_eq_true rfl) ?_
  refine nd_if_eq (tgt := 49) dX2_seriesOf_38 (by decide) (fun c11 => ?_) (fun c11 => ?_)
  · replace hf := ifp c11 hf
    refine nd_null dX2_seriesOf_49 ?_
    exact nd_loc [0] rfl (tX2_seriesOf_50 l w hfl F d R_typeOf hR_typeOf r _ _ _ k_a6 k_a6 (fun b e => by cases e) _ hf)
  · replace hf := ifn c11 hf
    refine nd_aload_n (j := 1) dX2_seriesOf_41 rfl rfl ?_
    refine nd_iload_n (j := 3) dX2_seriesOf_42 rfl rfl ?_
    replace hf := caE hf
    obtain ⟨v13, h12, e_h12, hf⟩ := hf
    refine nd_Sr [vr (some a6)] (hR_typeOf k_x0 e_h12) rfl dX2_seriesOf_43 mw_X2_typeOf (Or.inl q365) q366 (by omega) (by omega) (Nat.le_of_ble_eq_true rfl) (fun ok14 => ?_)
    have ok_v13 : ∀ b, v13 = some b → [6, 7, 8, 9, 11, 12].contains (nd_Kd b) = true := fun b q => okT99 (ok14 b q)
    refine nd_goto (tgt := 50) dX2_seriesOf_46 (by decide) ?_
    exact nd_loc [0] rfl (tX2_seriesOf_50 l w hfl F d R_typeOf hR_typeOf r _ _ _ k_a6 k_a6 ok_v13 _ hf)
set_option maxHeartbeats 4000000 in
theorem tX2_seriesOf (l : Launch) (w : Wd) (hfl : l.stackTraces = false) (F d : Nat) (R_typeOf : Nat → Int32 → Hp → Option (Option Nat × Hp)) (hR_typeOf : ∀ {p0 : Nat} {p1 : Int32} (k_p0 : nd_Kd p0 = 1) {h : Hp} {r : Option Nat × Hp}, R_typeOf p0 p1 h = some r → nd_C l w yX2_typeOf cX2_typeOf 6 (some (.object "NotationDesk$Type")) (1 + 8 * d) (30 + 400 * d) [vr (some p0), vi p1] h (.inl (some (vr r.1)), r.2)) {p0 : Nat} {p1 : Int32} {p2 : Int32} (k_p0 : nd_Kd p0 = 1) {h : Hp} {r : Option Nat × Hp} (hf : fX2_seriesOf F d R_typeOf p0 p1 p2 h = some r) : nd_C l w yX2_seriesOf cX2_seriesOf 4 (some (.object "NotationDesk$Type")) (4 + 8 * d) (87 + 400 * d) [vr (some p0), vi p1, vi p2] h (.inl (some (vr r.1)), r.2) := by
  refine nd_start (as := [vr (some p0), vi p1, vi p2]) hfl (by decide) (Nat.le_of_ble_eq_true rfl) ?_
  unfold fX2_seriesOf at hf
  refine nd_eqL (L' := [(0, vr (some p0)), (1, vi p1), (2, vi p2)]) rfl ?_
  refine nd_aload_n (j := 0) dX2_seriesOf_0 rfl rfl ?_
  refine nd_getP (k := 8) dX2_seriesOf_1 k_p0 rfl (Nat.le_of_ble_eq_true rfl) (nd_flO q153) rfl (fun ok1 => ?_)
  replace hf := nnE hf
  obtain ⟨a2, e_a2, hf⟩ := hf
  refine nd_topr e_a2.symm ?_
  have k_a2 : nd_Kd a2 = 28 := nd_c1 (ok1 a2 e_a2)
  refine nd_iload_n (j := 1) dX2_seriesOf_4 rfl rfl ?_
  replace hf := ckE hf
  obtain ⟨c3, hf⟩ := hf
  refine nd_aald (t := 8) (C := "NotationDesk$Series") dX2_seriesOf_5 k_a2 (by decide) (fun _ => rfl) c3 (fun ok4 => ?_)
  replace hf := bnE hf
  obtain ⟨o5, e_o5, hf⟩ := hf
  refine nd_topr e_o5 ?_
  have ok_o5 : ∀ b, o5 = some b → [11].contains (nd_Kd b) = true := fun b q => ok4 b (e_o5 ▸ q)
  refine nd_ifnonnull (tgt := 22) dX2_seriesOf_6 (by decide) (fun e_a6 => ?_) (fun a6 e_a6 => ?_)
  · replace hf := ocN e_a6 hf
    subst e_a6
    refine nd_aload_n (j := 0) dX2_seriesOf_9 rfl rfl ?_
    refine nd_getP (k := 8) dX2_seriesOf_10 k_p0 rfl (Nat.le_of_ble_eq_true rfl) (nd_flO q153) rfl (fun ok7 => ?_)
    replace hf := nnE hf
    obtain ⟨a8, e_a8, hf⟩ := hf
    refine nd_topr e_a8.symm ?_
    have k_a8 : nd_Kd a8 = 28 := nd_c1 (ok7 a8 e_a8)
    refine nd_iload_n (j := 1) dX2_seriesOf_13 rfl rfl ?_
    replace hf := bnE hf
    obtain ⟨n11, e_n11, hf⟩ := hf
    replace hf := ckE hf
    obtain ⟨c9, hf⟩ := hf
    refine nd_newO (ci := 11) (n := n11) dX2_seriesOf_14 rfl q135 q625 q100 c9 ?_
    replace hf := bnE hf
    obtain ⟨h10, e_h10, hf⟩ := hf
    refine nd_hp e_h10 ?_
    have k_n11 : nd_Kd n11 = 11 := (freE c9).2
    refine nd_dup dX2_seriesOf_17 rfl ?_
    replace hf := cvE hf
    obtain ⟨h12, e_h12, hf⟩ := hf
    refine nd_Iv [vr (some n11), vi p1, vr (some a8)] (tX15_init l w hfl F d k_n11 e_h12) rfl dX2_seriesOf_18 mw_X15_init (Or.inr ⟨_, q626⟩) q627 rfl (by omega) (by omega) (Nat.le_of_ble_eq_true rfl) ?_
    replace hf := ckE hf
    obtain ⟨c14, hf⟩ := hf
    refine nd_aast (t := 8) (C := "NotationDesk$Series") dX2_seriesOf_21 k_a8 (by decide) (fun _ => rfl) c14 (fun b e => by cases e; exact nd_asX8 k_n11) ?_
    replace hf := bnE hf
    obtain ⟨h15, e_h15, hf⟩ := hf
    refine nd_hp e_h15 ?_
    exact nd_loc [0, 1, 2] rfl (tX2_seriesOf_22 l w hfl F d R_typeOf hR_typeOf r _ _ _ k_p0 _ hf)
  · replace hf := ocS e_a6 hf
    have k_a6 : nd_Kd a6 = 11 := nd_c1 (ok_o5 a6 e_a6)
    subst e_a6
    exact nd_loc [0, 1, 2] rfl (tX2_seriesOf_22 l w hfl F d R_typeOf hR_typeOf r _ _ _ k_p0 _ hf)
def fX2_bodyOf (F d : Nat) (R_typeOf : Nat → Int32 → Hp → Option (Option Nat × Hp)) (p0 : Nat) (p1 : Int32) (h : Hp) : Option (Option Nat × Hp) :=
  ca (fX2_isName F d p0 h) fun v2 h1 => (
  if v2 = 0 then
  (ca (fX2_look F d p0 h1) fun v5 h4 => (
  ca (fX2_isLetter F d v5 h4) fun v7 h6 => (
  if v7 = 0 then
  (ca (fX2_noType F d p0 1 (gI h6 202 p0) h6) fun v51 h50 => (
  some (v51, h50)))
  else
  (if p1 < 6 then
  (bn (gI h6 202 p0) fun v10 => (
  bn (sI h6 202 p0 ((gI h6 202 p0) + 1)) fun h11 => (
  if v5 = 98 then
  (ca (fX2_numeric F d p0 v10 h11) fun v14 h13 => (
  nn v14 fun a16 => (
  ca (fX9_become F d a16 1 1 1 0 1 h13) fun v18 h17 => (
  some (v18, h17)))))
  else if v5 = 99 then
  (ca (fX2_choiceOf F d R_typeOf p0 v10 (p1 + 1) h11) fun v22 h21 => (
  some (v22, h21)))
  else if v5 = 105 then
  (ca (fX2_integer F d p0 v10 h11) fun v26 h25 => (
  some (v26, h25)))
  else if v5 = 110 then
  (ca (fX2_numeric F d p0 v10 h11) fun v30 h29 => (
  nn v30 fun a32 => (
  ca (fX9_become F d a32 5 5 1 0 0 h29) fun v34 h33 => (
  some (v34, h33)))))
  else if v5 = 111 then
  (ca (fX2_octetsAt F d p0 v10 h11) fun v38 h37 => (
  some (v38, h37)))
  else if v5 = 113 then
  (ca (fX2_sequenceOf F d R_typeOf p0 v10 (p1 + 1) h11) fun v42 h41 => (
  some (v42, h41)))
  else 
  (ca (fX2_seriesOf F d R_typeOf p0 v10 (p1 + 1) h11) fun v45 h44 => (
  some (v45, h44))))))
  else
  (ca (fX2_noType F d p0 5 (gI h6 202 p0) h6) fun v48 h47 => (
  some (v48, h47)))))))
  else
  (ca (fX2_named F d p0 p1 h1) fun v54 h53 => (
  some (v54, h53))))
set_option maxHeartbeats 4000000 in
theorem tX2_bodyOf (l : Launch) (w : Wd) (hfl : l.stackTraces = false) (F d : Nat) (R_typeOf : Nat → Int32 → Hp → Option (Option Nat × Hp)) (hR_typeOf : ∀ {p0 : Nat} {p1 : Int32} (k_p0 : nd_Kd p0 = 1) {h : Hp} {r : Option Nat × Hp}, R_typeOf p0 p1 h = some r → nd_C l w yX2_typeOf cX2_typeOf 6 (some (.object "NotationDesk$Type")) (1 + 8 * d) (30 + 400 * d) [vr (some p0), vi p1] h (.inl (some (vr r.1)), r.2)) {p0 : Nat} {p1 : Int32} (k_p0 : nd_Kd p0 = 1) {h : Hp} {r : Option Nat × Hp} (hf : fX2_bodyOf F d R_typeOf p0 p1 h = some r) : nd_C l w yX2_bodyOf cX2_bodyOf 4 (some (.object "NotationDesk$Type")) (6 + 8 * d) (142 + 400 * d) [vr (some p0), vi p1] h (.inl (some (vr r.1)), r.2) := by
  refine nd_start (as := [vr (some p0), vi p1]) hfl (by decide) (Nat.le_of_ble_eq_true rfl) ?_
  unfold fX2_bodyOf at hf
  refine nd_eqL (L' := [(0, vr (some p0)), (1, vi p1)]) rfl ?_
  refine nd_aload_n (j := 0) dX2_bodyOf_0 rfl rfl ?_
  replace hf := caE hf
  obtain ⟨v2, h1, e_h1, hf⟩ := hf
  refine nd_Vi [] (tX2_isName l w hfl F d k_p0 e_h1) rfl dX2_bodyOf_1 mw_X2_isName (Or.inl q349) k_p0 rfl q351 qs1 (by omega) (by omega) (Nat.le_of_ble_eq_true rfl) ?_
  refine nd_if_eq (tgt := 13) dX2_bodyOf_4 (by decide) (fun c3 => ?_) (fun c3 => ?_)
  · replace hf := ifp c3 hf
    refine nd_aload_n (j := 0) dX2_bodyOf_13 rfl rfl ?_
    replace hf := caE hf
    obtain ⟨v5, h4, e_h4, hf⟩ := hf
    refine nd_Vi [] (tX2_look l w hfl F d k_p0 e_h4) rfl dX2_bodyOf_14 mw_X2_look (Or.inl q353) k_p0 rfl q355 qs2 (by omega) (by omega) (Nat.le_of_ble_eq_true rfl) ?_
    refine nd_istore_n [(2, vi v5), (0, vr (some p0)), (1, vi p1)] dX2_bodyOf_17 rfl (Nat.le_of_ble_eq_true rfl) rfl ?_
    refine nd_iload_n (j := 0) dX2_bodyOf_18 rfl rfl ?_
    replace hf := caE hf
    obtain ⟨v7, h6, e_h6, hf⟩ := hf
    refine nd_Si [] (tX2_isLetter l w hfl F d e_h6) rfl dX2_bodyOf_19 mw_X2_isLetter (Or.inl q406) q407 (by omega) (by omega) (Nat.le_of_ble_eq_true rfl) ?_
    refine nd_if_ne (tgt := 35) dX2_bodyOf_22 (by decide) (fun c8 => ?_) (fun c8 => ?_)
    · replace hf := ifn c8 hf
      refine nd_iload_n (j := 2) dX2_bodyOf_35 rfl rfl ?_
      refine nd_bipush (v := 6) dX2_bodyOf_36 (by decide) ?_
      refine nd_icmp_lt (tgt := 51) dX2_bodyOf_38 (by decide) (fun c9 => ?_) (fun c9 => ?_)
      · replace hf := ifp c9 hf
        refine nd_aload_n (j := 1) dX2_bodyOf_51 rfl rfl ?_
        refine nd_getI (k := 2) dX2_bodyOf_52 k_p0 rfl (Nat.le_of_ble_eq_true rfl) (nd_flO q145) rfl ?_
        replace hf := bnE hf
        obtain ⟨v10, e_v10, hf⟩ := hf
        refine nd_top e_v10 ?_
        refine nd_istore_n [(3, vi v10), (2, vi v5), (0, vr (some p0)), (1, vi p1)] dX2_bodyOf_55 rfl (Nat.le_of_ble_eq_true rfl) rfl ?_
        refine nd_aload_n (j := 2) dX2_bodyOf_56 rfl rfl ?_
        refine nd_dup dX2_bodyOf_57 rfl ?_
        refine nd_getI (k := 2) dX2_bodyOf_58 k_p0 rfl (Nat.le_of_ble_eq_true rfl) (nd_flO q145) rfl ?_
        refine nd_iconst (v := 1) dX2_bodyOf_61 (by decide) ?_
        refine nd_iadd dX2_bodyOf_62 ?_
        refine nd_putN (k := 2) dX2_bodyOf_63 k_p0 rfl (Nat.le_of_ble_eq_true rfl) (nd_flO q145) rfl rfl rfl ?_
        replace hf := bnE hf
        obtain ⟨h11, e_h11, hf⟩ := hf
        refine nd_hp e_h11 ?_
        refine nd_iload_n (j := 1) dX2_bodyOf_66 rfl rfl ?_
        by_cases c12 : v5 = 98
        · replace hf := ifp c12 hf
          refine nd_tabIn (tgt := 144) dX2_bodyOf_67 (by rw [c12]; decide) (by rw [c12]; decide) (by rw [c12]; rfl) (by decide) ?_
          refine nd_aload_n (j := 2) dX2_bodyOf_144 rfl rfl ?_
          refine nd_iload_n (j := 0) dX2_bodyOf_145 rfl rfl ?_
          replace hf := caE hf
          obtain ⟨v14, h13, e_h13, hf⟩ := hf
          refine nd_Vr [] (tX2_numeric l w hfl F d k_p0 e_h13) rfl dX2_bodyOf_146 mw_X2_numeric (Or.inl q409) k_p0 rfl q411 qs8 (by omega) (by omega) (Nat.le_of_ble_eq_true rfl) (fun ok15 => ?_)
          have ok_v14 : ∀ b, v14 = some b → [6].contains (nd_Kd b) = true := fun b q => okT6 (ok15 b q)
          refine nd_iconst (v := 1) dX2_bodyOf_149 (by decide) ?_
          refine nd_iconst (v := 1) dX2_bodyOf_150 (by decide) ?_
          refine nd_iconst (v := 1) dX2_bodyOf_151 (by decide) ?_
          refine nd_iconst (v := 0) dX2_bodyOf_152 (by decide) ?_
          refine nd_iconst (v := 1) dX2_bodyOf_153 (by decide) ?_
          replace hf := nnE hf
          obtain ⟨a16, e_a16, hf⟩ := hf
          have k_a16 : nd_Kd a16 = 6 := nd_c1 (ok_v14 a16 e_a16)
          subst e_a16
          replace hf := caE hf
          obtain ⟨v18, h17, e_h17, hf⟩ := hf
          refine nd_Vr [] (tX9_become l w hfl F d k_a16 e_h17) rfl dX2_bodyOf_154 mw_X9_become (Or.inl q440) k_a16 rfl q441 q442 (by omega) (by omega) (Nat.le_of_ble_eq_true rfl) (fun ok19 => ?_)
          have ok_v18 : ∀ b, v18 = some b → [6].contains (nd_Kd b) = true := fun b q => okT6 (ok19 b q)
          cases hf
          exact nd_aret (fun b e => okT99' (by have q := nd_c1 (ok_v18 b e); rw [q]; rfl)) dX2_bodyOf_157
        replace hf := ifn c12 hf
        by_cases c20 : v5 = 99
        · replace hf := ifp c20 hf
          refine nd_tabIn (tgt := 187) dX2_bodyOf_67 (by rw [c20]; decide) (by rw [c20]; decide) (by rw [c20]; rfl) (by decide) ?_
          refine nd_aload_n (j := 2) dX2_bodyOf_187 rfl rfl ?_
          refine nd_iload_n (j := 0) dX2_bodyOf_188 rfl rfl ?_
          refine nd_iload_n (j := 3) dX2_bodyOf_189 rfl rfl ?_
          refine nd_iconst (v := 1) dX2_bodyOf_190 (by decide) ?_
          refine nd_iadd dX2_bodyOf_191 ?_
          replace hf := caE hf
          obtain ⟨v22, h21, e_h21, hf⟩ := hf
          refine nd_Sr [] (tX2_choiceOf l w hfl F d R_typeOf hR_typeOf k_p0 e_h21) rfl dX2_bodyOf_192 mw_X2_choiceOf (Or.inl q562) q563 (by omega) (by omega) (Nat.le_of_ble_eq_true rfl) (fun ok23 => ?_)
          have ok_v22 : ∀ b, v22 = some b → [6, 7, 8, 9, 11, 12].contains (nd_Kd b) = true := fun b q => okT99 (ok23 b q)
          cases hf
          exact nd_aret (fun b e => okT99' (ok_v22 b e)) dX2_bodyOf_195
        replace hf := ifn c20 hf
        by_cases c24 : v5 = 105
        · replace hf := ifp c24 hf
          refine nd_tabIn (tgt := 158) dX2_bodyOf_67 (by rw [c24]; decide) (by rw [c24]; decide) (by rw [c24]; rfl) (by decide) ?_
          refine nd_aload_n (j := 2) dX2_bodyOf_158 rfl rfl ?_
          refine nd_iload_n (j := 0) dX2_bodyOf_159 rfl rfl ?_
          replace hf := caE hf
          obtain ⟨v26, h25, e_h25, hf⟩ := hf
          refine nd_Vr [] (tX2_integer l w hfl F d k_p0 e_h25) rfl dX2_bodyOf_160 mw_X2_integer (Or.inl q450) k_p0 rfl q452 qs9 (by omega) (by omega) (Nat.le_of_ble_eq_true rfl) (fun ok27 => ?_)
          have ok_v26 : ∀ b, v26 = some b → [6, 7, 8, 9, 11, 12].contains (nd_Kd b) = true := fun b q => okT99 (ok27 b q)
          cases hf
          exact nd_aret (fun b e => okT99' (ok_v26 b e)) dX2_bodyOf_163
        replace hf := ifn c24 hf
        by_cases c28 : v5 = 110
        · replace hf := ifp c28 hf
          refine nd_tabIn (tgt := 164) dX2_bodyOf_67 (by rw [c28]; decide) (by rw [c28]; decide) (by rw [c28]; rfl) (by decide) ?_
          refine nd_aload_n (j := 2) dX2_bodyOf_164 rfl rfl ?_
          refine nd_iload_n (j := 0) dX2_bodyOf_165 rfl rfl ?_
          replace hf := caE hf
          obtain ⟨v30, h29, e_h29, hf⟩ := hf
          refine nd_Vr [] (tX2_numeric l w hfl F d k_p0 e_h29) rfl dX2_bodyOf_166 mw_X2_numeric (Or.inl q409) k_p0 rfl q411 qs8 (by omega) (by omega) (Nat.le_of_ble_eq_true rfl) (fun ok31 => ?_)
          have ok_v30 : ∀ b, v30 = some b → [6].contains (nd_Kd b) = true := fun b q => okT6 (ok31 b q)
          refine nd_iconst (v := 5) dX2_bodyOf_169 (by decide) ?_
          refine nd_iconst (v := 5) dX2_bodyOf_170 (by decide) ?_
          refine nd_iconst (v := 1) dX2_bodyOf_171 (by decide) ?_
          refine nd_iconst (v := 0) dX2_bodyOf_172 (by decide) ?_
          refine nd_iconst (v := 0) dX2_bodyOf_173 (by decide) ?_
          replace hf := nnE hf
          obtain ⟨a32, e_a32, hf⟩ := hf
          have k_a32 : nd_Kd a32 = 6 := nd_c1 (ok_v30 a32 e_a32)
          subst e_a32
          replace hf := caE hf
          obtain ⟨v34, h33, e_h33, hf⟩ := hf
          refine nd_Vr [] (tX9_become l w hfl F d k_a32 e_h33) rfl dX2_bodyOf_174 mw_X9_become (Or.inl q440) k_a32 rfl q441 q442 (by omega) (by omega) (Nat.le_of_ble_eq_true rfl) (fun ok35 => ?_)
          have ok_v34 : ∀ b, v34 = some b → [6].contains (nd_Kd b) = true := fun b q => okT6 (ok35 b q)
          cases hf
          exact nd_aret (fun b e => okT99' (by have q := nd_c1 (ok_v34 b e); rw [q]; rfl)) dX2_bodyOf_177
        replace hf := ifn c28 hf
        by_cases c36 : v5 = 111
        · replace hf := ifp c36 hf
          refine nd_tabIn (tgt := 196) dX2_bodyOf_67 (by rw [c36]; decide) (by rw [c36]; decide) (by rw [c36]; rfl) (by decide) ?_
          refine nd_aload_n (j := 2) dX2_bodyOf_196 rfl rfl ?_
          refine nd_iload_n (j := 0) dX2_bodyOf_197 rfl rfl ?_
          replace hf := caE hf
          obtain ⟨v38, h37, e_h37, hf⟩ := hf
          refine nd_Vr [] (tX2_octetsAt l w hfl F d k_p0 e_h37) rfl dX2_bodyOf_198 mw_X2_octetsAt (Or.inl q580) k_p0 rfl q582 qs15 (by omega) (by omega) (Nat.le_of_ble_eq_true rfl) (fun ok39 => ?_)
          have ok_v38 : ∀ b, v38 = some b → [6, 7, 8, 9, 11, 12].contains (nd_Kd b) = true := fun b q => okT99 (ok39 b q)
          cases hf
          exact nd_aret (fun b e => okT99' (ok_v38 b e)) dX2_bodyOf_201
        replace hf := ifn c36 hf
        by_cases c40 : v5 = 113
        · replace hf := ifp c40 hf
          refine nd_tabIn (tgt := 178) dX2_bodyOf_67 (by rw [c40]; decide) (by rw [c40]; decide) (by rw [c40]; rfl) (by decide) ?_
          refine nd_aload_n (j := 2) dX2_bodyOf_178 rfl rfl ?_
          refine nd_iload_n (j := 0) dX2_bodyOf_179 rfl rfl ?_
          refine nd_iload_n (j := 3) dX2_bodyOf_180 rfl rfl ?_
          refine nd_iconst (v := 1) dX2_bodyOf_181 (by decide) ?_
          refine nd_iadd dX2_bodyOf_182 ?_
          replace hf := caE hf
          obtain ⟨v42, h41, e_h41, hf⟩ := hf
          refine nd_Sr [] (tX2_sequenceOf l w hfl F d R_typeOf hR_typeOf k_p0 e_h41) rfl dX2_bodyOf_183 mw_X2_sequenceOf (Or.inl q463) q464 (by omega) (by omega) (Nat.le_of_ble_eq_true rfl) (fun ok43 => ?_)
          have ok_v42 : ∀ b, v42 = some b → [6, 7, 8, 9, 11, 12].contains (nd_Kd b) = true := fun b q => okT99 (ok43 b q)
          cases hf
          exact nd_aret (fun b e => okT99' (ok_v42 b e)) dX2_bodyOf_186
        replace hf := ifn c40 hf
        have v_go : nd_V l w yX2_bodyOf cX2_bodyOf 4 (some (.object "NotationDesk$Type")) (6 + 8 * d) (142 + 400 * d) (.inl (some (vr r.1)), r.2) h11 202 [(3, vi v10), (2, vi v5), (0, vr (some p0)), (1, vi p1)] [] := by
          refine nd_aload_n (j := 2) dX2_bodyOf_202 rfl rfl ?_
          refine nd_iload_n (j := 0) dX2_bodyOf_203 rfl rfl ?_
          refine nd_iload_n (j := 3) dX2_bodyOf_204 rfl rfl ?_
          refine nd_iconst (v := 1) dX2_bodyOf_205 (by decide) ?_
          refine nd_iadd dX2_bodyOf_206 ?_
          replace hf := caE hf
          obtain ⟨v45, h44, e_h44, hf⟩ := hf
          refine nd_Sr [] (tX2_seriesOf l w hfl F d R_typeOf hR_typeOf k_p0 e_h44) rfl dX2_bodyOf_207 mw_X2_seriesOf (Or.inl q622) q623 (by omega) (by omega) (Nat.le_of_ble_eq_true rfl) (fun ok46 => ?_)
          have ok_v45 : ∀ b, v45 = some b → [6, 7, 8, 9, 11, 12].contains (nd_Kd b) = true := fun b q => okT99 (ok46 b q)
          cases hf
          exact nd_aret (fun b e => okT99' (ok_v45 b e)) dX2_bodyOf_210
        by_cases q_ : v5.toInt < 98 ∨ 113 < v5.toInt
        · exact nd_tabOut dX2_bodyOf_67 q_ (by decide) v_go
        have q1_ : ¬ v5.toInt < 98 := fun z => q_ (Or.inl z)
        have q2_ : ¬ 113 < v5.toInt := fun z => q_ (Or.inr z)
        have q3_ : v5.toInt = 98 ∨ v5.toInt = 99 ∨ v5.toInt = 100 ∨ v5.toInt = 101 ∨ v5.toInt = 102 ∨ v5.toInt = 103 ∨ v5.toInt = 104 ∨ v5.toInt = 105 ∨ v5.toInt = 106 ∨ v5.toInt = 107 ∨ v5.toInt = 108 ∨ v5.toInt = 109 ∨ v5.toInt = 110 ∨ v5.toInt = 111 ∨ v5.toInt = 112 ∨ v5.toInt = 113 := by
          omega
        rcases q3_ with q3_ | q3_ | q3_ | q3_ | q3_ | q3_ | q3_ | q3_ | q3_ | q3_ | q3_ | q3_ | q3_ | q3_ | q3_ | q3_
        · exact absurd (Int32.toInt_inj.mp (by rw [q3_]; decide)) c12
        · exact absurd (Int32.toInt_inj.mp (by rw [q3_]; decide)) c20
        · exact nd_tabIn dX2_bodyOf_67 q1_ q2_ (by rw [q3_]; rfl) (by decide) v_go
        · exact nd_tabIn dX2_bodyOf_67 q1_ q2_ (by rw [q3_]; rfl) (by decide) v_go
        · exact nd_tabIn dX2_bodyOf_67 q1_ q2_ (by rw [q3_]; rfl) (by decide) v_go
        · exact nd_tabIn dX2_bodyOf_67 q1_ q2_ (by rw [q3_]; rfl) (by decide) v_go
        · exact nd_tabIn dX2_bodyOf_67 q1_ q2_ (by rw [q3_]; rfl) (by decide) v_go
        · exact absurd (Int32.toInt_inj.mp (by rw [q3_]; decide)) c24
        · exact nd_tabIn dX2_bodyOf_67 q1_ q2_ (by rw [q3_]; rfl) (by decide) v_go
        · exact nd_tabIn dX2_bodyOf_67 q1_ q2_ (by rw [q3_]; rfl) (by decide) v_go
        · exact nd_tabIn dX2_bodyOf_67 q1_ q2_ (by rw [q3_]; rfl) (by decide) v_go
        · exact nd_tabIn dX2_bodyOf_67 q1_ q2_ (by rw [q3_]; rfl) (by decide) v_go
        · exact absurd (Int32.toInt_inj.mp (by rw [q3_]; decide)) c28
        · exact absurd (Int32.toInt_inj.mp (by rw [q3_]; decide)) c36
        · exact nd_tabIn dX2_bodyOf_67 q1_ q2_ (by rw [q3_]; rfl) (by decide) v_go
        · exact absurd (Int32.toInt_inj.mp (by rw [q3_]; decide)) c40
      · replace hf := ifn c9 hf
        refine nd_aload_n (j := 1) dX2_bodyOf_41 rfl rfl ?_
        refine nd_iconst (v := 5) dX2_bodyOf_42 (by decide) ?_
        refine nd_aload_n (j := 1) dX2_bodyOf_43 rfl rfl ?_
        refine nd_getI (k := 2) dX2_bodyOf_44 k_p0 rfl (Nat.le_of_ble_eq_true rfl) (nd_flO q145) rfl ?_
        replace hf := caE hf
        obtain ⟨v48, h47, e_h47, hf⟩ := hf
        refine nd_Vr [] (tX2_noType l w hfl F d k_p0 e_h47) rfl dX2_bodyOf_47 mw_X2_noType (Or.inl q382) k_p0 rfl q384 qs7 (by omega) (by omega) (Nat.le_of_ble_eq_true rfl) (fun ok49 => ?_)
        have ok_v48 : ∀ b, v48 = some b → [6, 7, 8, 9, 11, 12].contains (nd_Kd b) = true := fun b q => okT99 (ok49 b q)
        cases hf
        exact nd_aret (fun b e => okT99' (ok_v48 b e)) dX2_bodyOf_50
    · replace hf := ifp c8 hf
      refine nd_aload_n (j := 1) dX2_bodyOf_25 rfl rfl ?_
      refine nd_iconst (v := 1) dX2_bodyOf_26 (by decide) ?_
      refine nd_aload_n (j := 1) dX2_bodyOf_27 rfl rfl ?_
      refine nd_getI (k := 2) dX2_bodyOf_28 k_p0 rfl (Nat.le_of_ble_eq_true rfl) (nd_flO q145) rfl ?_
      replace hf := caE hf
      obtain ⟨v51, h50, e_h50, hf⟩ := hf
      refine nd_Vr [] (tX2_noType l w hfl F d k_p0 e_h50) rfl dX2_bodyOf_31 mw_X2_noType (Or.inl q382) k_p0 rfl q384 qs7 (by omega) (by omega) (Nat.le_of_ble_eq_true rfl) (fun ok52 => ?_)
      have ok_v51 : ∀ b, v51 = some b → [6, 7, 8, 9, 11, 12].contains (nd_Kd b) = true := fun b q => okT99 (ok52 b q)
      cases hf
      exact nd_aret (fun b e => okT99' (ok_v51 b e)) dX2_bodyOf_34
  · replace hf := ifn c3 hf
    refine nd_aload_n (j := 0) dX2_bodyOf_7 rfl rfl ?_
    refine nd_iload_n (j := 1) dX2_bodyOf_8 rfl rfl ?_
    replace hf := caE hf
    obtain ⟨v54, h53, e_h53, hf⟩ := hf
    refine nd_Vr [] (tX2_named l w hfl F d k_p0 e_h53) rfl dX2_bodyOf_9 mw_X2_named (Or.inl q378) k_p0 rfl q380 qs6 (by omega) (by omega) (Nat.le_of_ble_eq_true rfl) (fun ok55 => ?_)
    have ok_v54 : ∀ b, v54 = some b → [6, 7, 8, 9, 11, 12].contains (nd_Kd b) = true := fun b q => okT99 (ok55 b q)
    cases hf
    exact nd_aret (fun b e => okT99' (ok_v54 b e)) dX2_bodyOf_12
def fX2_isTag_82 (F d : Nat) (this : Nat) (h : Hp) : Option (Int32 × Hp) :=
  ca (fX2_expect F d this 93 h) fun v2 h1 => (
  ck (isB v2) (
  some (v2, h1)))
def fX2_isTag (F d : Nat) (this : Nat) (h : Hp) : Option (Int32 × Hp) :=
  nn (gP h 211 this) fun a2 => (
  ck (inb (gI h 212 this) (nd_Ln a2)) (
  bn (sA h a2 (Int32.toNatClampNeg (gI h 212 this)) (gI h 202 this)) fun h4 => (
  bn (sI h4 212 this ((gI h4 212 this) + 1)) fun h5 => (
  bn (sI h5 202 this ((gI h5 202 this) + 1)) fun h6 => (
  ca (fX2_look F d this h6) fun v8 h7 => (
  ca (fX1_isDigit F d v8 h7) fun v10 h9 => (
  if v10 = 0 then
  (ca (fX2_wrong F d this 1 (gI h9 202 this) h9) fun v18 h17 => (
  ck (isB v18) (
  some (v18, h17))))
  else
  (bn (sI h9 202 this ((gI h9 202 this) + 1)) fun h12 => (
  ca (fX2_look F d this h12) fun v14 h13 => (
  if v14 = 33 then
  (bn (sI h13 202 this ((gI h13 202 this) + 1)) fun h16 => (
  fX2_isTag_82 F d this h16))
  else
  (fX2_isTag_82 F d this h13)))))))))))
set_option maxHeartbeats 4000000 in
theorem tX2_isTag_82 (l : Launch) (w : Wd) (hfl : l.stackTraces = false) (F d : Nat) (r : Int32 × Hp) (this : Nat) (k_this : nd_Kd this = 1) (h : Hp) (hf : fX2_isTag_82 F d this h = some r) : nd_V l w yX2_isTag cX2_isTag 1 (some .boolean) 2 43 (.inl (some (vi r.1)), r.2) h 82 [(0, vr (some this))] [] := by
  unfold fX2_isTag_82 at hf
  refine nd_aload_n (j := 0) dX2_isTag_82 rfl rfl ?_
  refine nd_bipush (v := 93) dX2_isTag_83 (by decide) ?_
  replace hf := caE hf
  obtain ⟨v2, h1, e_h1, hf⟩ := hf
  refine nd_Vi [] (tX2_expect l w hfl F d k_this e_h1) rfl dX2_isTag_85 mw_X2_expect (Or.inl q361) k_this rfl q363 qs4 (by omega) (by omega) (Nat.le_of_ble_eq_true rfl) ?_
  replace hf := ckE hf
  obtain ⟨c3, hf⟩ := hf
  cases hf
  exact nd_zret (v := v2) c3 dX2_isTag_88
set_option maxHeartbeats 4000000 in
theorem tX2_isTag (l : Launch) (w : Wd) (hfl : l.stackTraces = false) (F d : Nat) {this : Nat} (k_this : nd_Kd this = 1) {h : Hp} {r : Int32 × Hp} (hf : fX2_isTag F d this h = some r) : nd_C l w yX2_isTag cX2_isTag 1 (some .boolean) 2 43 [vr (some this)] h (.inl (some (vi r.1)), r.2) := by
  refine nd_start (as := [vr (some this)]) hfl (by decide) (Nat.le_of_ble_eq_true rfl) ?_
  unfold fX2_isTag at hf
  refine nd_eqL (L' := [(0, vr (some this))]) rfl ?_
  refine nd_aload_n (j := 0) dX2_isTag_0 rfl rfl ?_
  refine nd_getP (k := 11) dX2_isTag_1 k_this rfl (Nat.le_of_ble_eq_true rfl) (nd_flO q156) rfl (fun ok1 => ?_)
  replace hf := nnE hf
  obtain ⟨a2, e_a2, hf⟩ := hf
  refine nd_topr e_a2.symm ?_
  have k_a2 : nd_Kd a2 = 20 := nd_c1 (ok1 a2 e_a2)
  refine nd_aload_n (j := 0) dX2_isTag_4 rfl rfl ?_
  refine nd_getI (k := 12) dX2_isTag_5 k_this rfl (Nat.le_of_ble_eq_true rfl) (nd_flO q157) rfl ?_
  refine nd_aload_n (j := 0) dX2_isTag_8 rfl rfl ?_
  refine nd_getI (k := 2) dX2_isTag_9 k_this rfl (Nat.le_of_ble_eq_true rfl) (nd_flO q145) rfl ?_
  replace hf := ckE hf
  obtain ⟨c3, hf⟩ := hf
  refine nd_iast dX2_isTag_12 k_a2 c3 ?_
  replace hf := bnE hf
  obtain ⟨h4, e_h4, hf⟩ := hf
  refine nd_hp e_h4 ?_
  refine nd_aload_n (j := 0) dX2_isTag_13 rfl rfl ?_
  refine nd_dup dX2_isTag_14 rfl ?_
  refine nd_getI (k := 12) dX2_isTag_15 k_this rfl (Nat.le_of_ble_eq_true rfl) (nd_flO q157) rfl ?_
  refine nd_iconst (v := 1) dX2_isTag_18 (by decide) ?_
  refine nd_iadd dX2_isTag_19 ?_
  refine nd_putN (k := 12) dX2_isTag_20 k_this rfl (Nat.le_of_ble_eq_true rfl) (nd_flO q157) rfl rfl rfl ?_
  replace hf := bnE hf
  obtain ⟨h5, e_h5, hf⟩ := hf
  refine nd_hp e_h5 ?_
  refine nd_aload_n (j := 0) dX2_isTag_23 rfl rfl ?_
  refine nd_dup dX2_isTag_24 rfl ?_
  refine nd_getI (k := 2) dX2_isTag_25 k_this rfl (Nat.le_of_ble_eq_true rfl) (nd_flO q145) rfl ?_
  refine nd_iconst (v := 1) dX2_isTag_28 (by decide) ?_
  refine nd_iadd dX2_isTag_29 ?_
  refine nd_putN (k := 2) dX2_isTag_30 k_this rfl (Nat.le_of_ble_eq_true rfl) (nd_flO q145) rfl rfl rfl ?_
  replace hf := bnE hf
  obtain ⟨h6, e_h6, hf⟩ := hf
  refine nd_hp e_h6 ?_
  refine nd_aload_n (j := 0) dX2_isTag_33 rfl rfl ?_
  replace hf := caE hf
  obtain ⟨v8, h7, e_h7, hf⟩ := hf
  refine nd_Vi [] (tX2_look l w hfl F d k_this e_h7) rfl dX2_isTag_34 mw_X2_look (Or.inl q353) k_this rfl q355 qs2 (by omega) (by omega) (Nat.le_of_ble_eq_true rfl) ?_
  replace hf := caE hf
  obtain ⟨v10, h9, e_h9, hf⟩ := hf
  refine nd_Si [] (tX1_isDigit l w hfl F d e_h9) rfl dX2_isTag_37 mw_X1_isDigit (Or.inr ⟨_, q372⟩) q373 (by omega) (by omega) (Nat.le_of_ble_eq_true rfl) ?_
  refine nd_if_ne (tgt := 53) dX2_isTag_40 (by decide) (fun c11 => ?_) (fun c11 => ?_)
  · replace hf := ifn c11 hf
    refine nd_aload_n (j := 0) dX2_isTag_53 rfl rfl ?_
    refine nd_dup dX2_isTag_54 rfl ?_
    refine nd_getI (k := 2) dX2_isTag_55 k_this rfl (Nat.le_of_ble_eq_true rfl) (nd_flO q145) rfl ?_
    refine nd_iconst (v := 1) dX2_isTag_58 (by decide) ?_
    refine nd_iadd dX2_isTag_59 ?_
    refine nd_putN (k := 2) dX2_isTag_60 k_this rfl (Nat.le_of_ble_eq_true rfl) (nd_flO q145) rfl rfl rfl ?_
    replace hf := bnE hf
    obtain ⟨h12, e_h12, hf⟩ := hf
    refine nd_hp e_h12 ?_
    refine nd_aload_n (j := 0) dX2_isTag_63 rfl rfl ?_
    replace hf := caE hf
    obtain ⟨v14, h13, e_h13, hf⟩ := hf
    refine nd_Vi [] (tX2_look l w hfl F d k_this e_h13) rfl dX2_isTag_64 mw_X2_look (Or.inl q353) k_this rfl q355 qs2 (by omega) (by omega) (Nat.le_of_ble_eq_true rfl) ?_
    refine nd_bipush (v := 33) dX2_isTag_67 (by decide) ?_
    refine nd_icmp_ne (tgt := 82) dX2_isTag_69 (by decide) (fun c15 => ?_) (fun c15 => ?_)
    · replace hf := ifn c15 hf
      exact nd_loc [0] rfl (tX2_isTag_82 l w hfl F d r _ k_this _ hf)
    · replace hf := ifp c15 hf
      refine nd_aload_n (j := 0) dX2_isTag_72 rfl rfl ?_
      refine nd_dup dX2_isTag_73 rfl ?_
      refine nd_getI (k := 2) dX2_isTag_74 k_this rfl (Nat.le_of_ble_eq_true rfl) (nd_flO q145) rfl ?_
      refine nd_iconst (v := 1) dX2_isTag_77 (by decide) ?_
      refine nd_iadd dX2_isTag_78 ?_
      refine nd_putN (k := 2) dX2_isTag_79 k_this rfl (Nat.le_of_ble_eq_true rfl) (nd_flO q145) rfl rfl rfl ?_
      replace hf := bnE hf
      obtain ⟨h16, e_h16, hf⟩ := hf
      refine nd_hp e_h16 ?_
      exact nd_loc [0] rfl (tX2_isTag_82 l w hfl F d r _ k_this _ hf)
  · replace hf := ifp c11 hf
    refine nd_aload_n (j := 0) dX2_isTag_43 rfl rfl ?_
    refine nd_iconst (v := 1) dX2_isTag_44 (by decide) ?_
    refine nd_aload_n (j := 0) dX2_isTag_45 rfl rfl ?_
    refine nd_getI (k := 2) dX2_isTag_46 k_this rfl (Nat.le_of_ble_eq_true rfl) (nd_flO q145) rfl ?_
    replace hf := caE hf
    obtain ⟨v18, h17, e_h17, hf⟩ := hf
    refine nd_Vi [] (tX2_wrong l w hfl F d k_this e_h17) rfl dX2_isTag_49 mw_X2_wrong (Or.inl q357) k_this rfl q359 qs3 (by omega) (by omega) (Nat.le_of_ble_eq_true rfl) ?_
    replace hf := ckE hf
    obtain ⟨c19, hf⟩ := hf
    cases hf
    exact nd_zret (v := v18) c19 dX2_isTag_52
def fX16_init (F d : Nat) (this : Nat) (h : Hp) : Option (Hp) :=
  cv (fX7_init F d this h) fun h1 => (
  some h1)
set_option maxHeartbeats 4000000 in
theorem tX16_init (l : Launch) (w : Wd) (hfl : l.stackTraces = false) (F d : Nat) {this : Nat} (k_this : nd_Kd this = 12) {h : Hp} {r : Hp} (hf : fX16_init F d this h = some r) : nd_C l w yX16_init cX16_init 1 none 2 60 [vr (some this)] h (.inl none, r) := by
  refine nd_start (as := [vr (some this)]) hfl (by decide) (Nat.le_of_ble_eq_true rfl) ?_
  unfold fX16_init at hf
  refine nd_eqL (L' := [(0, vr (some this))]) rfl ?_
  refine nd_aload_n (j := 0) dX16_init_0 rfl rfl ?_
  replace hf := cvE hf
  obtain ⟨h1, e_h1, hf⟩ := hf
  refine nd_Iv [] (tX7_init l w hfl F d (by rw [k_this]; rfl) e_h1) rfl dX16_init_1 mw_X7_init (Or.inr ⟨_, q645⟩) q421 rfl (by omega) (by omega) (Nat.le_of_ble_eq_true rfl) ?_
  cases hf
  exact nd_vret dX16_init_4
def fX7_isChoice (F d : Nat) (this : Nat) (h : Hp) : Option (Int32 × Hp) :=
  some (0, h)
set_option maxHeartbeats 4000000 in
theorem tX7_isChoice (l : Launch) (w : Wd) (hfl : l.stackTraces = false) (F d : Nat) {this : Nat} (k_this : [6, 7, 8, 9, 11, 12].contains (nd_Kd this) = true) {h : Hp} {r : Int32 × Hp} (hf : fX7_isChoice F d this h = some r) : nd_C l w yX7_isChoice cX7_isChoice 1 (some .boolean) 0 0 [vr (some this)] h (.inl (some (vi r.1)), r.2) := by
  refine nd_start (as := [vr (some this)]) hfl (by decide) (Nat.le_of_ble_eq_true rfl) ?_
  unfold fX7_isChoice at hf
  refine nd_eqL (L' := [(0, vr (some this))]) rfl ?_
  refine nd_iconst (v := 0) dX7_isChoice_0 (by decide) ?_
  cases hf
  exact nd_zret (v := 0) (by decide) dX7_isChoice_1
def v_isChoice (F d : Nat) (b : Nat) (h : Hp) : Option (Int32 × Hp) :=
    if nd_Kd b = 6 then fX7_isChoice F d b h
    else if nd_Kd b = 7 then fX7_isChoice F d b h
    else if nd_Kd b = 8 then fX12_isChoice F d b h
    else if nd_Kd b = 9 then fX7_isChoice F d b h
    else if nd_Kd b = 11 then fX7_isChoice F d b h
    else if nd_Kd b = 12 then fX7_isChoice F d b h
    else none
set_option maxHeartbeats 4000000 in
theorem tv_isChoice (l : Launch) (w : Wd) (hfl : l.stackTraces = false) (F d : Nat) {b : Nat} (k_b : [6, 7, 8, 9, 11, 12].contains (nd_Kd b) = true) {h : Hp} {r : Int32 × Hp} (hf : v_isChoice F d b h = some r) : nc_isChoice l w b 0 0 [vr (some b)] h (.inl (some (vi r.1)), r.2) := by
  unfold v_isChoice at hf
  refine ⟨fun e_ => ?_, fun e_ => ?_, fun e_ => ?_, fun e_ => ?_, fun e_ => ?_, fun e_ => ?_⟩
  · rw [if_pos e_] at hf
    exact nd_C.room (tX7_isChoice l w hfl F d (by rw [e_]; rfl) hf) (by omega) (by omega)
  · rw [if_neg (by omega)] at hf; rw [if_pos e_] at hf
    exact nd_C.room (tX7_isChoice l w hfl F d (by rw [e_]; rfl) hf) (by omega) (by omega)
  · rw [if_neg (by omega)] at hf; rw [if_neg (by omega)] at hf; rw [if_pos e_] at hf
    exact nd_C.room (tX12_isChoice l w hfl F d e_ hf) (by omega) (by omega)
  · rw [if_neg (by omega)] at hf; rw [if_neg (by omega)] at hf; rw [if_neg (by omega)] at hf; rw [if_pos e_] at hf
    exact nd_C.room (tX7_isChoice l w hfl F d (by rw [e_]; rfl) hf) (by omega) (by omega)
  · rw [if_neg (by omega)] at hf; rw [if_neg (by omega)] at hf; rw [if_neg (by omega)] at hf; rw [if_neg (by omega)] at hf; rw [if_pos e_] at hf
    exact nd_C.room (tX7_isChoice l w hfl F d (by rw [e_]; rfl) hf) (by omega) (by omega)
  · rw [if_neg (by omega)] at hf; rw [if_neg (by omega)] at hf; rw [if_neg (by omega)] at hf; rw [if_neg (by omega)] at hf; rw [if_neg (by omega)] at hf; rw [if_pos e_] at hf
    exact nd_C.room (tX7_isChoice l w hfl F d (by rw [e_]; rfl) hf) (by omega) (by omega)
def fX16_become_22 (F d : Nat) (this : Nat) (x3 : Nat) (s0 : Nat) (s1 : Int32) (h : Hp) : Option (Option Nat × Hp) :=
  ck (isB s1) (
  bn (sI h 1601 s0 s1) fun h1 => (
  bn (sP h1 1602 this (some x3)) fun h3 => (
  some ((some this), h3))))
def fX16_become_17 (F d : Nat) (this : Nat) (x3 : Nat) (s0 : Nat) (h : Hp) : Option (Option Nat × Hp) :=
  fX16_become_22 F d this x3 s0 1 h
def fX16_become (F d : Nat) (this : Nat) (p0 : Int32) (p1 : Int32) (p2 : Nat) (h : Hp) : Option (Option Nat × Hp) :=
  bn (sI h 1600 this p0) fun h1 => (
  if p1 = 0 then
  (ca (v_isChoice F d p2 h1) fun v4 h3 => (
  if v4 = 0 then
  (fX16_become_22 F d this p2 this 0 h3)
  else
  (fX16_become_17 F d this p2 this h3)))
  else
  (fX16_become_17 F d this p2 this h1))
set_option maxHeartbeats 4000000 in
theorem tX16_become_22 (l : Launch) (w : Wd) (hfl : l.stackTraces = false) (F d : Nat) (r : Option Nat × Hp) (this : Nat) (x3 : Nat) (s0 : Nat) (s1 : Int32) (k_this : nd_Kd this = 12) (k_x3 : [6, 7, 8, 9, 11, 12].contains (nd_Kd x3) = true) (k_s0 : nd_Kd s0 = 12) (h : Hp) (hf : fX16_become_22 F d this x3 s0 s1 h = some r) : nd_V l w yX16_become cX16_become 4 (some (.object "NotationDesk$Tagged")) 1 20 (.inl (some (vr r.1)), r.2) h 22 [(0, vr (some this)), (3, vr (some x3))] [vi s1, vr (some s0)] := by
  unfold fX16_become_22 at hf
  replace hf := ckE hf
  obtain ⟨c2, hf⟩ := hf
  refine nd_putZ (k := 1) c2 dX16_become_22 k_s0 rfl (Nat.le_of_ble_eq_true rfl) (nd_flO q647) rfl rfl rfl ?_
  replace hf := bnE hf
  obtain ⟨h1, e_h1, hf⟩ := hf
  refine nd_hp e_h1 ?_
  refine nd_aload_n (j := 0) dX16_become_25 rfl rfl ?_
  refine nd_aload_n (j := 1) dX16_become_26 rfl rfl ?_
  refine nd_putP (k := 2) (f := 1602) dX16_become_27 k_this rfl (Nat.le_of_ble_eq_true rfl) (nd_flO q648) rfl rfl rfl rfl (fun b e => by cases e; exact k_x3) ?_
  replace hf := bnE hf
  obtain ⟨h3, e_h3, hf⟩ := hf
  refine nd_hp e_h3 ?_
  refine nd_aload_n (j := 0) dX16_become_30 rfl rfl ?_
  cases hf
  exact nd_aret (fun b e => by cases e; exact okT12' (by rw [k_this]; rfl)) dX16_become_31
set_option maxHeartbeats 4000000 in
theorem tX16_become_17 (l : Launch) (w : Wd) (hfl : l.stackTraces = false) (F d : Nat) (r : Option Nat × Hp) (this : Nat) (x3 : Nat) (s0 : Nat) (k_this : nd_Kd this = 12) (k_x3 : [6, 7, 8, 9, 11, 12].contains (nd_Kd x3) = true) (k_s0 : nd_Kd s0 = 12) (h : Hp) (hf : fX16_become_17 F d this x3 s0 h = some r) : nd_V l w yX16_become cX16_become 4 (some (.object "NotationDesk$Tagged")) 1 20 (.inl (some (vr r.1)), r.2) h 17 [(0, vr (some this)), (3, vr (some x3))] [vr (some s0)] := by
  unfold fX16_become_17 at hf
  refine nd_iconst (v := 1) dX16_become_17 (by decide) ?_
  refine nd_goto (tgt := 22) dX16_become_18 (by decide) ?_
  exact nd_loc [0, 1] rfl (tX16_become_22 l w hfl F d r _ _ _ _ k_this k_x3 k_s0 _ hf)
set_option maxHeartbeats 4000000 in
theorem tX16_become (l : Launch) (w : Wd) (hfl : l.stackTraces = false) (F d : Nat) {this : Nat} {p0 : Int32} {p1 : Int32} {p2 : Nat} (k_this : nd_Kd this = 12) (k_p2 : [6, 7, 8, 9, 11, 12].contains (nd_Kd p2) = true) {h : Hp} {r : Option Nat × Hp} (hf : fX16_become F d this p0 p1 p2 h = some r) : nd_C l w yX16_become cX16_become 4 (some (.object "NotationDesk$Tagged")) 1 20 [vr (some this), vi p0, vi p1, vr (some p2)] h (.inl (some (vr r.1)), r.2) := by
  refine nd_start (as := [vr (some this), vi p0, vi p1, vr (some p2)]) hfl (by decide) (Nat.le_of_ble_eq_true rfl) ?_
  unfold fX16_become at hf
  refine nd_eqL (L' := [(0, vr (some this)), (1, vi p0), (2, vi p1), (3, vr (some p2))]) rfl ?_
  refine nd_aload_n (j := 0) dX16_become_0 rfl rfl ?_
  refine nd_iload_n (j := 1) dX16_become_1 rfl rfl ?_
  refine nd_putN (k := 0) dX16_become_2 k_this rfl (Nat.le_of_ble_eq_true rfl) (nd_flO q646) rfl rfl rfl ?_
  replace hf := bnE hf
  obtain ⟨h1, e_h1, hf⟩ := hf
  refine nd_hp e_h1 ?_
  refine nd_aload_n (j := 0) dX16_become_5 rfl rfl ?_
  refine nd_iload_n (j := 2) dX16_become_6 rfl rfl ?_
  refine nd_if_ne (tgt := 17) dX16_become_7 (by decide) (fun c2 => ?_) (fun c2 => ?_)
  · replace hf := ifn c2 hf
    exact nd_loc [0, 3] rfl (tX16_become_17 l w hfl F d r _ _ _ k_this k_p2 k_this _ hf)
  · replace hf := ifp c2 hf
    refine nd_aload_n (j := 3) dX16_become_10 rfl rfl ?_
    replace hf := caE hf
    obtain ⟨v4, h3, e_h3, hf⟩ := hf
    refine nd_v_isChoice [vr (some this)] (tv_isChoice l w hfl F d k_p2 e_h3) rfl dX16_become_11 q660 k_p2 (by omega) (by omega) (Nat.le_of_ble_eq_true rfl) ?_
    refine nd_if_eq (tgt := 21) dX16_become_14 (by decide) (fun c5 => ?_) (fun c5 => ?_)
    · replace hf := ifp c5 hf
      refine nd_iconst (v := 0) dX16_become_21 (by decide) ?_
      exact nd_loc [0, 3] rfl (tX16_become_22 l w hfl F d r _ _ _ _ k_this k_p2 k_this _ hf)
    · replace hf := ifn c5 hf
      exact nd_loc [0, 3] rfl (tX16_become_17 l w hfl F d r _ _ _ k_this k_p2 k_this _ hf)
def fX2_typeOf_135 (F d : Nat) (R_typeOf : Nat → Int32 → Hp → Option (Option Nat × Hp)) (k_39 : Nat → Int32 → Option Nat → Hp → Option (Option Nat × Hp)) (x0 : Nat) (x2 : Int32) (x4 : Nat) (s0 : Option Nat) (s1 : Int32) (s2 : Int32) (h : Hp) : Option (Option Nat × Hp) :=
  nn s0 fun a1 => (
  ca (fX16_become F d a1 s1 s2 x4 h) fun v3 h2 => (
  k_39 x0 x2 v3 h2))
def fX2_typeOf_97 (F d : Nat) (R_typeOf : Nat → Int32 → Hp → Option (Option Nat × Hp)) (k_39 : Nat → Int32 → Option Nat → Hp → Option (Option Nat × Hp)) (x0 : Nat) (x2 : Int32) (x4 : Nat) (x5 : Int32) (h : Hp) : Option (Option Nat × Hp) :=
  nn (gP h 210 x0) fun a2 => (
  ck (inb x5 (nd_Ln a2)) (
  bn (gR h a2 (Int32.toNatClampNeg x5)) fun o5 => (
  nn (gP h 200 x0) fun a7 => (
  ck (inb (x5 + 1) (nd_Ln a7)) (
  nn (gP h 200 x0) fun a10 => (
  ck (inb (x5 + 2) (nd_Ln a10)) (
  if (gA h a10 (Int32.toNatClampNeg (x5 + 2))) = 33 then
  (fX2_typeOf_135 F d R_typeOf k_39 x0 x2 x4 o5 ((gA h a7 (Int32.toNatClampNeg (x5 + 1))) - 48) 0 h)
  else
  (fX2_typeOf_135 F d R_typeOf k_39 x0 x2 x4 o5 ((gA h a7 (Int32.toNatClampNeg (x5 + 1))) - 48) 1 h))))))))
def fX2_typeOf_39 (F d : Nat) (R_typeOf : Nat → Int32 → Hp → Option (Option Nat × Hp)) : Nat → Nat → Int32 → Option Nat → Hp → Option (Option Nat × Hp)
  | 0, _, _, _, _ => none
  | n + 1, x0, x2, x4, h =>
    oc x4
    (some (none, h))
    (fun a1 =>
    if (gI h 212 x0) ≤ x2 then
    (some ((some a1), h))
    else
    (bn (sI h 212 x0 ((gI h 212 x0) - 1)) fun h3 => (
    nn (gP h3 211 x0) fun a5 => (
    ck (inb (gI h3 212 x0) (nd_Ln a5)) (
    bn (gA h3 a5 (Int32.toNatClampNeg (gI h3 212 x0))) fun v7 => (
    nn (gP h3 210 x0) fun a9 => (
    ck (inb v7 (nd_Ln a9)) (
    bn (gR h3 a9 (Int32.toNatClampNeg v7)) fun o12 => (
    oc o12
    (nn (gP h3 210 x0) fun a15 => (
    bn (nd_tn 6 v7) fun n18 => (
    ck (fre h3 n18 12) (
    bn (nw h3 n18 3) fun h17 => (
    cv (fX16_init F d n18 h17) fun h19 => (
    ck (inb v7 (nd_Ln a15)) (
    bn (sR h19 a15 (Int32.toNatClampNeg v7) (some n18)) fun h22 => (
    fX2_typeOf_97 F d R_typeOf (fX2_typeOf_39 F d R_typeOf n) x0 x2 a1 v7 h22))))))))
    (fun a13 =>
    fX2_typeOf_97 F d R_typeOf (fX2_typeOf_39 F d R_typeOf n) x0 x2 a1 v7 h3))))))))))
def fX2_typeOf_5 (F d : Nat) (R_typeOf : Nat → Int32 → Hp → Option (Option Nat × Hp)) : Nat → Nat → Int32 → Int32 → Hp → Option (Option Nat × Hp)
  | 0, _, _, _, _ => none
  | n + 1, x0, x1, x2, h =>
    ca (fX2_look F d x0 h) fun v2 h1 => (
    if v2 = 91 then
    (ca (fX2_isTag F d x0 h1) fun v9 h8 => (
    if v9 = 0 then
    (some (none, h8))
    else
    (fX2_typeOf_5 F d R_typeOf n x0 x1 x2 h8)))
    else
    (bn ((gI h1 212 x0) - x2) fun v4 => (
    ca (fX2_bodyOf F d R_typeOf x0 (x1 + v4) h1) fun v6 h5 => (
    fX2_typeOf_39 F d R_typeOf F x0 x2 v6 h5))))
def fX2_typeOf (F d : Nat) (R_typeOf : Nat → Int32 → Hp → Option (Option Nat × Hp)) (p0 : Nat) (p1 : Int32) (h : Hp) : Option (Option Nat × Hp) :=
  bn (gI h 212 p0) fun v1 => (
  fX2_typeOf_5 F d R_typeOf F p0 p1 v1 h)
set_option maxHeartbeats 4000000 in
theorem tX2_typeOf_135 (l : Launch) (w : Wd) (hfl : l.stackTraces = false) (F d : Nat) (R_typeOf : Nat → Int32 → Hp → Option (Option Nat × Hp)) (hR_typeOf : ∀ {p0 : Nat} {p1 : Int32} (k_p0 : nd_Kd p0 = 1) {h : Hp} {r : Option Nat × Hp}, R_typeOf p0 p1 h = some r → nd_C l w yX2_typeOf cX2_typeOf 6 (some (.object "NotationDesk$Type")) (1 + 8 * d) (30 + 400 * d) [vr (some p0), vi p1] h (.inl (some (vr r.1)), r.2)) (r : Option Nat × Hp) (k_39 : Nat → Int32 → Option Nat → Hp → Option (Option Nat × Hp)) (hk_39 : ∀ (x0 : Nat) (x2 : Int32) (x4 : Option Nat) (k_x0 : nd_Kd x0 = 1) (ok_x4 : ∀ b, x4 = some b → [6, 7, 8, 9, 11, 12].contains (nd_Kd b) = true) (h : Hp), k_39 x0 x2 x4 h = some r → nd_V l w yX2_typeOf cX2_typeOf 6 (some (.object "NotationDesk$Type")) (7 + 8 * d) (165 + 400 * d) (.inl (some (vr r.1)), r.2) h 39 [(0, vr (some x0)), (2, vi x2), (4, vr x4)] []) (x0 : Nat) (x2 : Int32) (x4 : Nat) (s0 : Option Nat) (s1 : Int32) (s2 : Int32) (k_x0 : nd_Kd x0 = 1) (k_x4 : [6, 7, 8, 9, 11, 12].contains (nd_Kd x4) = true) (ok_s0 : ∀ b, s0 = some b → [12].contains (nd_Kd b) = true) (h : Hp) (hf : fX2_typeOf_135 F d R_typeOf k_39 x0 x2 x4 s0 s1 s2 h = some r) : nd_V l w yX2_typeOf cX2_typeOf 6 (some (.object "NotationDesk$Type")) (7 + 8 * d) (165 + 400 * d) (.inl (some (vr r.1)), r.2) h 135 [(0, vr (some x0)), (2, vi x2), (4, vr (some x4))] [vi s2, vi s1, vr s0] := by
  unfold fX2_typeOf_135 at hf
  refine nd_aload (j := 2) dX2_typeOf_135 rfl ?_
  replace hf := nnE hf
  obtain ⟨a1, e_a1, hf⟩ := hf
  have k_a1 : nd_Kd a1 = 12 := nd_c1 (ok_s0 a1 e_a1)
  subst e_a1
  replace hf := caE hf
  obtain ⟨v3, h2, e_h2, hf⟩ := hf
  refine nd_Vr [] (tX16_become l w hfl F d k_a1 k_x4 e_h2) rfl dX2_typeOf_137 mw_X16_become (Or.inl q656) k_a1 rfl q657 q658 (by omega) (by omega) (Nat.le_of_ble_eq_true rfl) (fun ok4 => ?_)
  have ok_v3 : ∀ b, v3 = some b → [12].contains (nd_Kd b) = true := fun b q => okT12 (ok4 b q)
  refine nd_astore [(4, vr v3), (0, vr (some x0)), (2, vi x2)] dX2_typeOf_140 (Nat.le_of_ble_eq_true rfl) rfl ?_
  refine nd_goto (tgt := 39) dX2_typeOf_142 (by decide) ?_
  exact nd_loc [1, 2, 0] rfl (hk_39 _ _ _ k_x0 (fun b e => by have q := nd_c1 (ok_v3 b e); rw [q]; rfl) _ hf)
set_option maxHeartbeats 4000000 in
theorem tX2_typeOf_97 (l : Launch) (w : Wd) (hfl : l.stackTraces = false) (F d : Nat) (R_typeOf : Nat → Int32 → Hp → Option (Option Nat × Hp)) (hR_typeOf : ∀ {p0 : Nat} {p1 : Int32} (k_p0 : nd_Kd p0 = 1) {h : Hp} {r : Option Nat × Hp}, R_typeOf p0 p1 h = some r → nd_C l w yX2_typeOf cX2_typeOf 6 (some (.object "NotationDesk$Type")) (1 + 8 * d) (30 + 400 * d) [vr (some p0), vi p1] h (.inl (some (vr r.1)), r.2)) (r : Option Nat × Hp) (k_39 : Nat → Int32 → Option Nat → Hp → Option (Option Nat × Hp)) (hk_39 : ∀ (x0 : Nat) (x2 : Int32) (x4 : Option Nat) (k_x0 : nd_Kd x0 = 1) (ok_x4 : ∀ b, x4 = some b → [6, 7, 8, 9, 11, 12].contains (nd_Kd b) = true) (h : Hp), k_39 x0 x2 x4 h = some r → nd_V l w yX2_typeOf cX2_typeOf 6 (some (.object "NotationDesk$Type")) (7 + 8 * d) (165 + 400 * d) (.inl (some (vr r.1)), r.2) h 39 [(0, vr (some x0)), (2, vi x2), (4, vr x4)] []) (x0 : Nat) (x2 : Int32) (x4 : Nat) (x5 : Int32) (k_x0 : nd_Kd x0 = 1) (k_x4 : [6, 7, 8, 9, 11, 12].contains (nd_Kd x4) = true) (h : Hp) (hf : fX2_typeOf_97 F d R_typeOf k_39 x0 x2 x4 x5 h = some r) : nd_V l w yX2_typeOf cX2_typeOf 6 (some (.object "NotationDesk$Type")) (7 + 8 * d) (165 + 400 * d) (.inl (some (vr r.1)), r.2) h 97 [(0, vr (some x0)), (2, vi x2), (4, vr (some x4)), (5, vi x5)] [] := by
  unfold fX2_typeOf_97 at hf
  refine nd_aload_n (j := 0) dX2_typeOf_97 rfl rfl ?_
  refine nd_getP (k := 10) dX2_typeOf_98 k_x0 rfl (Nat.le_of_ble_eq_true rfl) (nd_flO q155) rfl (fun ok1 => ?_)
  replace hf := nnE hf
  obtain ⟨a2, e_a2, hf⟩ := hf
  refine nd_topr e_a2.symm ?_
  have k_a2 : nd_Kd a2 = 30 := nd_c1 (ok1 a2 e_a2)
  refine nd_iload (j := 3) dX2_typeOf_101 rfl ?_
  replace hf := ckE hf
  obtain ⟨c3, hf⟩ := hf
  refine nd_aald (t := 10) (C := "NotationDesk$Tagged") dX2_typeOf_103 k_a2 (by decide) (fun _ => rfl) c3 (fun ok4 => ?_)
  replace hf := bnE hf
  obtain ⟨o5, e_o5, hf⟩ := hf
  refine nd_topr e_o5 ?_
  have ok_o5 : ∀ b, o5 = some b → [12].contains (nd_Kd b) = true := fun b q => ok4 b (e_o5 ▸ q)
  refine nd_aload_n (j := 0) dX2_typeOf_104 rfl rfl ?_
  refine nd_getP (k := 0) dX2_typeOf_105 k_x0 rfl (Nat.le_of_ble_eq_true rfl) (nd_flO q141) rfl (fun ok6 => ?_)
  replace hf := nnE hf
  obtain ⟨a7, e_a7, hf⟩ := hf
  refine nd_topr e_a7.symm ?_
  have k_a7 : nd_Kd a7 = 21 := nd_c1 (ok6 a7 e_a7)
  refine nd_iload (j := 3) dX2_typeOf_108 rfl ?_
  refine nd_iconst (v := 1) dX2_typeOf_110 (by decide) ?_
  refine nd_iadd dX2_typeOf_111 ?_
  replace hf := ckE hf
  obtain ⟨c8, hf⟩ := hf
  refine nd_cald dX2_typeOf_112 k_a7 c8 ?_
  refine nd_bipush (v := 48) dX2_typeOf_113 (by decide) ?_
  refine nd_isub dX2_typeOf_115 ?_
  refine nd_aload_n (j := 0) dX2_typeOf_116 rfl rfl ?_
  refine nd_getP (k := 0) dX2_typeOf_117 k_x0 rfl (Nat.le_of_ble_eq_true rfl) (nd_flO q141) rfl (fun ok9 => ?_)
  replace hf := nnE hf
  obtain ⟨a10, e_a10, hf⟩ := hf
  refine nd_topr e_a10.symm ?_
  have k_a10 : nd_Kd a10 = 21 := nd_c1 (ok9 a10 e_a10)
  refine nd_iload (j := 3) dX2_typeOf_120 rfl ?_
  refine nd_iconst (v := 2) dX2_typeOf_122 (by decide) ?_
  refine nd_iadd dX2_typeOf_123 ?_
  replace hf := ckE hf
  obtain ⟨c11, hf⟩ := hf
  refine nd_cald dX2_typeOf_124 k_a10 c11 ?_
  refine nd_bipush (v := 33) dX2_typeOf_125 (by decide) ?_
  refine nd_icmp_eq (tgt := 134) dX2_typeOf_127 (by decide) (fun c12 => ?_) (fun c12 => ?_)
  · replace hf := ifp c12 hf
    refine nd_iconst (v := 0) dX2_typeOf_134 (by decide) ?_
    exact nd_loc [0, 1, 2] rfl (tX2_typeOf_135 l w hfl F d R_typeOf hR_typeOf r k_39 hk_39 _ _ _ _ _ _ k_x0 k_x4 ok_o5 _ hf)
  · replace hf := ifn c12 hf
    refine nd_iconst (v := 1) dX2_typeOf_130 (by decide) ?_
    refine nd_goto (tgt := 135) dX2_typeOf_131 (by decide) ?_
    exact nd_loc [0, 1, 2] rfl (tX2_typeOf_135 l w hfl F d R_typeOf hR_typeOf r k_39 hk_39 _ _ _ _ _ _ k_x0 k_x4 ok_o5 _ hf)
set_option maxHeartbeats 4000000 in
theorem tX2_typeOf_39 (l : Launch) (w : Wd) (hfl : l.stackTraces = false) (F d : Nat) (R_typeOf : Nat → Int32 → Hp → Option (Option Nat × Hp)) (hR_typeOf : ∀ {p0 : Nat} {p1 : Int32} (k_p0 : nd_Kd p0 = 1) {h : Hp} {r : Option Nat × Hp}, R_typeOf p0 p1 h = some r → nd_C l w yX2_typeOf cX2_typeOf 6 (some (.object "NotationDesk$Type")) (1 + 8 * d) (30 + 400 * d) [vr (some p0), vi p1] h (.inl (some (vr r.1)), r.2)) (r : Option Nat × Hp) : ∀ (n : Nat) (x0 : Nat) (x2 : Int32) (x4 : Option Nat) (k_x0 : nd_Kd x0 = 1) (ok_x4 : ∀ b, x4 = some b → [6, 7, 8, 9, 11, 12].contains (nd_Kd b) = true) (h : Hp), fX2_typeOf_39 F d R_typeOf n x0 x2 x4 h = some r → nd_V l w yX2_typeOf cX2_typeOf 6 (some (.object "NotationDesk$Type")) (7 + 8 * d) (165 + 400 * d) (.inl (some (vr r.1)), r.2) h 39 [(0, vr (some x0)), (2, vi x2), (4, vr x4)] [] := by
  intro n
  induction n with
  | zero => intro _ _ _ _ _ _ hf; cases hf
  | succ n ih =>
    intro x0 x2 x4 k_x0 ok_x4 h hf
    unfold fX2_typeOf_39 at hf
    refine nd_aload (j := 2) dX2_typeOf_39 rfl ?_
    refine nd_ifnull (tgt := 145) dX2_typeOf_41 (by decide) (fun e_a1 => ?_) (fun a1 e_a1 => ?_)
    · replace hf := ocN e_a1 hf
      subst e_a1
      refine nd_aload (j := 2) dX2_typeOf_145 rfl ?_
      cases hf
      exact nd_aret (fun b e => by cases e) dX2_typeOf_147
    · replace hf := ocS e_a1 hf
      have k_a1 : [6, 7, 8, 9, 11, 12].contains (nd_Kd a1) = true := ok_x4 a1 e_a1
      subst e_a1
      refine nd_aload_n (j := 0) dX2_typeOf_44 rfl rfl ?_
      refine nd_getI (k := 12) dX2_typeOf_45 k_x0 rfl (Nat.le_of_ble_eq_true rfl) (nd_flO q157) rfl ?_
      refine nd_iload_n (j := 1) dX2_typeOf_48 rfl rfl ?_
      refine nd_icmp_le (tgt := 145) dX2_typeOf_49 (by decide) (fun c2 => ?_) (fun c2 => ?_)
      · replace hf := ifp c2 hf
        refine nd_aload (j := 2) dX2_typeOf_145 rfl ?_
        cases hf
        exact nd_aret (fun b e => by cases e; exact okT99' k_a1) dX2_typeOf_147
      · replace hf := ifn c2 hf
        refine nd_aload_n (j := 0) dX2_typeOf_52 rfl rfl ?_
        refine nd_dup dX2_typeOf_53 rfl ?_
        refine nd_getI (k := 12) dX2_typeOf_54 k_x0 rfl (Nat.le_of_ble_eq_true rfl) (nd_flO q157) rfl ?_
        refine nd_iconst (v := 1) dX2_typeOf_57 (by decide) ?_
        refine nd_isub dX2_typeOf_58 ?_
        refine nd_putN (k := 12) dX2_typeOf_59 k_x0 rfl (Nat.le_of_ble_eq_true rfl) (nd_flO q157) rfl rfl rfl ?_
        replace hf := bnE hf
        obtain ⟨h3, e_h3, hf⟩ := hf
        refine nd_hp e_h3 ?_
        refine nd_aload_n (j := 0) dX2_typeOf_62 rfl rfl ?_
        refine nd_getP (k := 11) dX2_typeOf_63 k_x0 rfl (Nat.le_of_ble_eq_true rfl) (nd_flO q156) rfl (fun ok4 => ?_)
        replace hf := nnE hf
        obtain ⟨a5, e_a5, hf⟩ := hf
        refine nd_topr e_a5.symm ?_
        have k_a5 : nd_Kd a5 = 20 := nd_c1 (ok4 a5 e_a5)
        refine nd_aload_n (j := 0) dX2_typeOf_66 rfl rfl ?_
        refine nd_getI (k := 12) dX2_typeOf_67 k_x0 rfl (Nat.le_of_ble_eq_true rfl) (nd_flO q157) rfl ?_
        replace hf := ckE hf
        obtain ⟨c6, hf⟩ := hf
        refine nd_iald dX2_typeOf_70 k_a5 c6 ?_
        replace hf := bnE hf
        obtain ⟨v7, e_v7, hf⟩ := hf
        refine nd_top e_v7 ?_
        refine nd_istore [(5, vi v7), (0, vr (some x0)), (2, vi x2), (4, vr (some a1))] dX2_typeOf_71 (Nat.le_of_ble_eq_true rfl) rfl ?_
        refine nd_aload_n (j := 1) dX2_typeOf_73 rfl rfl ?_
        refine nd_getP (k := 10) dX2_typeOf_74 k_x0 rfl (Nat.le_of_ble_eq_true rfl) (nd_flO q155) rfl (fun ok8 => ?_)
        replace hf := nnE hf
        obtain ⟨a9, e_a9, hf⟩ := hf
        refine nd_topr e_a9.symm ?_
        have k_a9 : nd_Kd a9 = 30 := nd_c1 (ok8 a9 e_a9)
        refine nd_iload (j := 0) dX2_typeOf_77 rfl ?_
        replace hf := ckE hf
        obtain ⟨c10, hf⟩ := hf
        refine nd_aald (t := 10) (C := "NotationDesk$Tagged") dX2_typeOf_79 k_a9 (by decide) (fun _ => rfl) c10 (fun ok11 => ?_)
        replace hf := bnE hf
        obtain ⟨o12, e_o12, hf⟩ := hf
        refine nd_topr e_o12 ?_
        have ok_o12 : ∀ b, o12 = some b → [12].contains (nd_Kd b) = true := fun b q => ok11 b (e_o12 ▸ q)
        refine nd_ifnonnull (tgt := 97) dX2_typeOf_80 (by decide) (fun e_a13 => ?_) (fun a13 e_a13 => ?_)
        · replace hf := ocN e_a13 hf
          subst e_a13
          refine nd_aload_n (j := 1) dX2_typeOf_83 rfl rfl ?_
          refine nd_getP (k := 10) dX2_typeOf_84 k_x0 rfl (Nat.le_of_ble_eq_true rfl) (nd_flO q155) rfl (fun ok14 => ?_)
          replace hf := nnE hf
          obtain ⟨a15, e_a15, hf⟩ := hf
          refine nd_topr e_a15.symm ?_
          have k_a15 : nd_Kd a15 = 30 := nd_c1 (ok14 a15 e_a15)
          refine nd_iload (j := 0) dX2_typeOf_87 rfl ?_
          replace hf := bnE hf
          obtain ⟨n18, e_n18, hf⟩ := hf
          replace hf := ckE hf
          obtain ⟨c16, hf⟩ := hf
          refine nd_newO (ci := 12) (n := n18) dX2_typeOf_89 rfl q139 q641 q101 c16 ?_
          replace hf := bnE hf
          obtain ⟨h17, e_h17, hf⟩ := hf
          refine nd_hp e_h17 ?_
          have k_n18 : nd_Kd n18 = 12 := (freE c16).2
          refine nd_dup dX2_typeOf_92 rfl ?_
          replace hf := cvE hf
          obtain ⟨h19, e_h19, hf⟩ := hf
          refine nd_Iv [vr (some n18), vi v7, vr (some a15)] (tX16_init l w hfl F d k_n18 e_h19) rfl dX2_typeOf_93 mw_X16_init (Or.inr ⟨_, q642⟩) q643 rfl (by omega) (by omega) (Nat.le_of_ble_eq_true rfl) ?_
          replace hf := ckE hf
          obtain ⟨c21, hf⟩ := hf
          refine nd_aast (t := 10) (C := "NotationDesk$Tagged") dX2_typeOf_96 k_a15 (by decide) (fun _ => rfl) c21 (fun b e => by cases e; exact nd_asX10 k_n18) ?_
          replace hf := bnE hf
          obtain ⟨h22, e_h22, hf⟩ := hf
          refine nd_hp e_h22 ?_
          exact nd_loc [1, 2, 3, 0] rfl (tX2_typeOf_97 l w hfl F d R_typeOf hR_typeOf r (fX2_typeOf_39 F d R_typeOf n) ih _ _ _ _ k_x0 k_a1 _ hf)
        · replace hf := ocS e_a13 hf
          have k_a13 : nd_Kd a13 = 12 := nd_c1 (ok_o12 a13 e_a13)
          subst e_a13
          exact nd_loc [1, 2, 3, 0] rfl (tX2_typeOf_97 l w hfl F d R_typeOf hR_typeOf r (fX2_typeOf_39 F d R_typeOf n) ih _ _ _ _ k_x0 k_a1 _ hf)
set_option maxHeartbeats 4000000 in
theorem tX2_typeOf_5 (l : Launch) (w : Wd) (hfl : l.stackTraces = false) (F d : Nat) (R_typeOf : Nat → Int32 → Hp → Option (Option Nat × Hp)) (hR_typeOf : ∀ {p0 : Nat} {p1 : Int32} (k_p0 : nd_Kd p0 = 1) {h : Hp} {r : Option Nat × Hp}, R_typeOf p0 p1 h = some r → nd_C l w yX2_typeOf cX2_typeOf 6 (some (.object "NotationDesk$Type")) (1 + 8 * d) (30 + 400 * d) [vr (some p0), vi p1] h (.inl (some (vr r.1)), r.2)) (r : Option Nat × Hp) : ∀ (n : Nat) (x0 : Nat) (x1 : Int32) (x2 : Int32) (k_x0 : nd_Kd x0 = 1) (h : Hp), fX2_typeOf_5 F d R_typeOf n x0 x1 x2 h = some r → nd_V l w yX2_typeOf cX2_typeOf 6 (some (.object "NotationDesk$Type")) (7 + 8 * d) (165 + 400 * d) (.inl (some (vr r.1)), r.2) h 5 [(0, vr (some x0)), (1, vi x1), (2, vi x2)] [] := by
  intro n
  induction n with
  | zero => intro _ _ _ _ _ hf; cases hf
  | succ n ih =>
    intro x0 x1 x2 k_x0 h hf
    unfold fX2_typeOf_5 at hf
    refine nd_aload_n (j := 0) dX2_typeOf_5 rfl rfl ?_
    replace hf := caE hf
    obtain ⟨v2, h1, e_h1, hf⟩ := hf
    refine nd_Vi [] (tX2_look l w hfl F d k_x0 e_h1) rfl dX2_typeOf_6 mw_X2_look (Or.inl q353) k_x0 rfl q355 qs2 (by omega) (by omega) (Nat.le_of_ble_eq_true rfl) ?_
    refine nd_bipush (v := 91) dX2_typeOf_9 (by decide) ?_
    refine nd_icmp_ne (tgt := 23) dX2_typeOf_11 (by decide) (fun c3 => ?_) (fun c3 => ?_)
    · replace hf := ifn c3 hf
      refine nd_aload_n (j := 0) dX2_typeOf_23 rfl rfl ?_
      refine nd_getI (k := 12) dX2_typeOf_24 k_x0 rfl (Nat.le_of_ble_eq_true rfl) (nd_flO q157) rfl ?_
      refine nd_iload_n (j := 2) dX2_typeOf_27 rfl rfl ?_
      refine nd_isub dX2_typeOf_28 ?_
      replace hf := bnE hf
      obtain ⟨v4, e_v4, hf⟩ := hf
      refine nd_top e_v4 ?_
      refine nd_istore_n [(3, vi v4), (0, vr (some x0)), (1, vi x1), (2, vi x2)] dX2_typeOf_29 rfl (Nat.le_of_ble_eq_true rfl) rfl ?_
      refine nd_aload_n (j := 1) dX2_typeOf_30 rfl rfl ?_
      refine nd_iload_n (j := 2) dX2_typeOf_31 rfl rfl ?_
      refine nd_iload_n (j := 0) dX2_typeOf_32 rfl rfl ?_
      refine nd_iadd dX2_typeOf_33 ?_
      replace hf := caE hf
      obtain ⟨v6, h5, e_h5, hf⟩ := hf
      refine nd_Sr [] (tX2_bodyOf l w hfl F d R_typeOf hR_typeOf k_x0 e_h5) rfl dX2_typeOf_34 mw_X2_bodyOf (Or.inl q375) q376 (by omega) (by omega) (Nat.le_of_ble_eq_true rfl) (fun ok7 => ?_)
      have ok_v6 : ∀ b, v6 = some b → [6, 7, 8, 9, 11, 12].contains (nd_Kd b) = true := fun b q => okT99 (ok7 b q)
      refine nd_astore [(4, vr v6), (3, vi v4), (0, vr (some x0)), (1, vi x1), (2, vi x2)] dX2_typeOf_37 (Nat.le_of_ble_eq_true rfl) rfl ?_
      exact nd_loc [2, 4, 0] rfl (tX2_typeOf_39 l w hfl F d R_typeOf hR_typeOf r F _ _ _ k_x0 ok_v6 _ hf)
    · replace hf := ifp c3 hf
      refine nd_aload_n (j := 0) dX2_typeOf_14 rfl rfl ?_
      replace hf := caE hf
      obtain ⟨v9, h8, e_h8, hf⟩ := hf
      refine nd_Vi [] (tX2_isTag l w hfl F d k_x0 e_h8) rfl dX2_typeOf_15 mw_X2_isTag (Or.inl q368) k_x0 rfl q370 qs5 (by omega) (by omega) (Nat.le_of_ble_eq_true rfl) ?_
      refine nd_if_ne (tgt := 5) dX2_typeOf_18 (by decide) (fun c10 => ?_) (fun c10 => ?_)
      · replace hf := ifn c10 hf
        exact nd_loc [0, 1, 2] rfl (ih _ _ _ k_x0 _ hf)
      · replace hf := ifp c10 hf
        refine nd_null dX2_typeOf_21 ?_
        cases hf
        exact nd_aret (fun b e => by cases e) dX2_typeOf_22
set_option maxHeartbeats 4000000 in
theorem tX2_typeOf (l : Launch) (w : Wd) (hfl : l.stackTraces = false) (F d : Nat) (R_typeOf : Nat → Int32 → Hp → Option (Option Nat × Hp)) (hR_typeOf : ∀ {p0 : Nat} {p1 : Int32} (k_p0 : nd_Kd p0 = 1) {h : Hp} {r : Option Nat × Hp}, R_typeOf p0 p1 h = some r → nd_C l w yX2_typeOf cX2_typeOf 6 (some (.object "NotationDesk$Type")) (1 + 8 * d) (30 + 400 * d) [vr (some p0), vi p1] h (.inl (some (vr r.1)), r.2)) {p0 : Nat} {p1 : Int32} (k_p0 : nd_Kd p0 = 1) {h : Hp} {r : Option Nat × Hp} (hf : fX2_typeOf F d R_typeOf p0 p1 h = some r) : nd_C l w yX2_typeOf cX2_typeOf 6 (some (.object "NotationDesk$Type")) (7 + 8 * d) (165 + 400 * d) [vr (some p0), vi p1] h (.inl (some (vr r.1)), r.2) := by
  refine nd_start (as := [vr (some p0), vi p1]) hfl (by decide) (Nat.le_of_ble_eq_true rfl) ?_
  unfold fX2_typeOf at hf
  refine nd_eqL (L' := [(0, vr (some p0)), (1, vi p1)]) rfl ?_
  refine nd_aload_n (j := 0) dX2_typeOf_0 rfl rfl ?_
  refine nd_getI (k := 12) dX2_typeOf_1 k_p0 rfl (Nat.le_of_ble_eq_true rfl) (nd_flO q157) rfl ?_
  replace hf := bnE hf
  obtain ⟨v1, e_v1, hf⟩ := hf
  refine nd_top e_v1 ?_
  refine nd_istore_n [(2, vi v1), (0, vr (some p0)), (1, vi p1)] dX2_typeOf_4 rfl (Nat.le_of_ble_eq_true rfl) rfl ?_
  exact nd_loc [1, 2, 0] rfl (tX2_typeOf_5 l w hfl F d R_typeOf hR_typeOf r F _ _ _ k_p0 _ hf)
def v_typeOf (F : Nat) : Nat → Nat → Int32 → Hp → Option (Option Nat × Hp)
  | 0, _, _, _ => none
  | d + 1, p0, p1, h =>
    fX2_typeOf F d (v_typeOf F d) p0 p1 h
set_option maxHeartbeats 4000000 in
theorem tv_typeOf (l : Launch) (w : Wd) (hfl : l.stackTraces = false) (F : Nat) : ∀ (d : Nat) {p0 : Nat} {p1 : Int32} (k_p0 : nd_Kd p0 = 1) {h : Hp} {r : Option Nat × Hp}, v_typeOf F d p0 p1 h = some r → nd_C l w yX2_typeOf cX2_typeOf 6 (some (.object "NotationDesk$Type")) (1 + 8 * d) (30 + 400 * d) [vr (some p0), vi p1] h (.inl (some (vr r.1)), r.2) := by
  intro d
  induction d with
  | zero => intro p0 p1 k_p0 h r hf; cases hf
  | succ d ih =>
    intro p0 p1 k_p0 h r hf
    unfold v_typeOf at hf
    exact nd_C.room (tX2_typeOf l w hfl F d (v_typeOf F d) (ih) k_p0 hf) (by omega) (by omega)
def fX2_define_72 (F d : Nat) (x0 : Nat) (x1 : Int32) (s0 : Option Nat) (h : Hp) : Option (Int32 × Hp) :=
  oc s0
  (some (0, h))
  (fun a1 =>
  ca (fX2_expect F d x0 59 h) fun v3 h2 => (
  if v3 = 0 then
  (some (0, h2))
  else
  (nn (gP h2 204 x0) fun a6 => (
  ck (inb x1 (nd_Ln a6)) (
  bn (sR h2 a6 (Int32.toNatClampNeg x1) (some a1)) fun h8 => (
  some (1, h8)))))))
def fX2_define (F d : Nat) (p0 : Nat) (h : Hp) : Option (Int32 × Hp) :=
  ca (fX2_isName F d p0 h) fun v2 h1 => (
  if v2 = 0 then
  (ca (fX2_wrong F d p0 1 (gI h1 202 p0) h1) fun v24 h23 => (
  ck (isB v24) (
  some (v24, h23))))
  else
  (ca (fX2_look F d p0 h1) fun v5 h4 => (
  bn (v5 - 65) fun v6 => (
  nn (gP h4 204 p0) fun a8 => (
  ck (inb v6 (nd_Ln a8)) (
  bn (gR h4 a8 (Int32.toNatClampNeg v6)) fun o11 => (
  oc o11
  (bn (sI h4 202 p0 ((gI h4 202 p0) + 1)) fun h13 => (
  ca (fX2_expect F d p0 61 h13) fun v15 h14 => (
  if v15 = 0 then
  (fX2_define_72 F d p0 v6 none h14)
  else
  (ca (v_typeOf F d p0 0 h14) fun v18 h17 => (
  fX2_define_72 F d p0 v6 v18 h17)))))
  (fun a12 =>
  ca (fX2_wrong F d p0 2 (gI h4 202 p0) h4) fun v21 h20 => (
  ck (isB v21) (
  some (v21, h20)))))))))))
set_option maxHeartbeats 4000000 in
theorem tX2_define_72 (l : Launch) (w : Wd) (hfl : l.stackTraces = false) (F d : Nat) (r : Int32 × Hp) (x0 : Nat) (x1 : Int32) (s0 : Option Nat) (k_x0 : nd_Kd x0 = 1) (ok_s0 : ∀ b, s0 = some b → [6, 7, 8, 9, 11, 12].contains (nd_Kd b) = true) (h : Hp) (hf : fX2_define_72 F d x0 x1 s0 h = some r) : nd_V l w yX2_define cX2_define 3 (some .boolean) (2 + 8 * d) (55 + 400 * d) (.inl (some (vi r.1)), r.2) h 72 [(0, vr (some x0)), (1, vi x1)] [vr s0] := by
  unfold fX2_define_72 at hf
  refine nd_astore_n [(2, vr s0), (0, vr (some x0)), (1, vi x1)] dX2_define_72 rfl (Nat.le_of_ble_eq_true rfl) rfl ?_
  refine nd_aload_n (j := 0) dX2_define_73 rfl rfl ?_
  refine nd_ifnull (tgt := 86) dX2_define_74 (by decide) (fun e_a1 => ?_) (fun a1 e_a1 => ?_)
  · replace hf := ocN e_a1 hf
    subst e_a1
    refine nd_iconst (v := 0) dX2_define_86 (by decide) ?_
    cases hf
    exact nd_zret (v := 0) (by decide) dX2_define_87
  · replace hf := ocS e_a1 hf
    have k_a1 : [6, 7, 8, 9, 11, 12].contains (nd_Kd a1) = true := ok_s0 a1 e_a1
    subst e_a1
    refine nd_aload_n (j := 1) dX2_define_77 rfl rfl ?_
    refine nd_bipush (v := 59) dX2_define_78 (by decide) ?_
    replace hf := caE hf
    obtain ⟨v3, h2, e_h2, hf⟩ := hf
    refine nd_Vi [] (tX2_expect l w hfl F d k_x0 e_h2) rfl dX2_define_80 mw_X2_expect (Or.inl q361) k_x0 rfl q363 qs4 (by omega) (by omega) (Nat.le_of_ble_eq_true rfl) ?_
    refine nd_if_ne (tgt := 88) dX2_define_83 (by decide) (fun c4 => ?_) (fun c4 => ?_)
    · replace hf := ifn c4 hf
      refine nd_aload_n (j := 1) dX2_define_88 rfl rfl ?_
      refine nd_getP (k := 4) dX2_define_89 k_x0 rfl (Nat.le_of_ble_eq_true rfl) (nd_flO q148) rfl (fun ok5 => ?_)
      replace hf := nnE hf
      obtain ⟨a6, e_a6, hf⟩ := hf
      refine nd_topr e_a6.symm ?_
      have k_a6 : nd_Kd a6 = 24 := nd_c1 (ok5 a6 e_a6)
      refine nd_iload_n (j := 2) dX2_define_92 rfl rfl ?_
      refine nd_aload_n (j := 0) dX2_define_93 rfl rfl ?_
      replace hf := ckE hf
      obtain ⟨c7, hf⟩ := hf
      refine nd_aast (t := 4) (C := "NotationDesk$Type") dX2_define_94 k_a6 (by decide) (fun _ => rfl) c7 (fun b e => by cases e; exact nd_asT k_a1) ?_
      replace hf := bnE hf
      obtain ⟨h8, e_h8, hf⟩ := hf
      refine nd_hp e_h8 ?_
      refine nd_iconst (v := 1) dX2_define_95 (by decide) ?_
      cases hf
      exact nd_zret (v := 1) (by decide) dX2_define_96
    · replace hf := ifp c4 hf
      refine nd_iconst (v := 0) dX2_define_86 (by decide) ?_
      cases hf
      exact nd_zret (v := 0) (by decide) dX2_define_87
set_option maxHeartbeats 4000000 in
theorem tX2_define (l : Launch) (w : Wd) (hfl : l.stackTraces = false) (F d : Nat) {p0 : Nat} (k_p0 : nd_Kd p0 = 1) {h : Hp} {r : Int32 × Hp} (hf : fX2_define F d p0 h = some r) : nd_C l w yX2_define cX2_define 3 (some .boolean) (2 + 8 * d) (55 + 400 * d) [vr (some p0)] h (.inl (some (vi r.1)), r.2) := by
  refine nd_start (as := [vr (some p0)]) hfl (by decide) (Nat.le_of_ble_eq_true rfl) ?_
  unfold fX2_define at hf
  refine nd_eqL (L' := [(0, vr (some p0))]) rfl ?_
  refine nd_aload_n (j := 0) dX2_define_0 rfl rfl ?_
  replace hf := caE hf
  obtain ⟨v2, h1, e_h1, hf⟩ := hf
  refine nd_Vi [] (tX2_isName l w hfl F d k_p0 e_h1) rfl dX2_define_1 mw_X2_isName (Or.inl q349) k_p0 rfl q351 qs1 (by omega) (by omega) (Nat.le_of_ble_eq_true rfl) ?_
  refine nd_if_ne (tgt := 17) dX2_define_4 (by decide) (fun c3 => ?_) (fun c3 => ?_)
  · replace hf := ifn c3 hf
    refine nd_aload_n (j := 0) dX2_define_17 rfl rfl ?_
    replace hf := caE hf
    obtain ⟨v5, h4, e_h4, hf⟩ := hf
    refine nd_Vi [] (tX2_look l w hfl F d k_p0 e_h4) rfl dX2_define_18 mw_X2_look (Or.inl q353) k_p0 rfl q355 qs2 (by omega) (by omega) (Nat.le_of_ble_eq_true rfl) ?_
    refine nd_bipush (v := 65) dX2_define_21 (by decide) ?_
    refine nd_isub dX2_define_23 ?_
    replace hf := bnE hf
    obtain ⟨v6, e_v6, hf⟩ := hf
    refine nd_top e_v6 ?_
    refine nd_istore_n [(1, vi v6), (0, vr (some p0))] dX2_define_24 rfl (Nat.le_of_ble_eq_true rfl) rfl ?_
    refine nd_aload_n (j := 1) dX2_define_25 rfl rfl ?_
    refine nd_getP (k := 4) dX2_define_26 k_p0 rfl (Nat.le_of_ble_eq_true rfl) (nd_flO q148) rfl (fun ok7 => ?_)
    replace hf := nnE hf
    obtain ⟨a8, e_a8, hf⟩ := hf
    refine nd_topr e_a8.symm ?_
    have k_a8 : nd_Kd a8 = 24 := nd_c1 (ok7 a8 e_a8)
    refine nd_iload_n (j := 0) dX2_define_29 rfl rfl ?_
    replace hf := ckE hf
    obtain ⟨c9, hf⟩ := hf
    refine nd_aald (t := 4) (C := "NotationDesk$Type") dX2_define_30 k_a8 (by decide) (fun _ => rfl) c9 (fun ok10 => ?_)
    replace hf := bnE hf
    obtain ⟨o11, e_o11, hf⟩ := hf
    refine nd_topr e_o11 ?_
    have ok_o11 : ∀ b, o11 = some b → [6, 7, 8, 9, 11, 12].contains (nd_Kd b) = true := fun b q => ok10 b (e_o11 ▸ q)
    refine nd_ifnull (tgt := 44) dX2_define_31 (by decide) (fun e_a12 => ?_) (fun a12 e_a12 => ?_)
    · replace hf := ocN e_a12 hf
      subst e_a12
      refine nd_aload_n (j := 1) dX2_define_44 rfl rfl ?_
      refine nd_dup dX2_define_45 rfl ?_
      refine nd_getI (k := 2) dX2_define_46 k_p0 rfl (Nat.le_of_ble_eq_true rfl) (nd_flO q145) rfl ?_
      refine nd_iconst (v := 1) dX2_define_49 (by decide) ?_
      refine nd_iadd dX2_define_50 ?_
      refine nd_putN (k := 2) dX2_define_51 k_p0 rfl (Nat.le_of_ble_eq_true rfl) (nd_flO q145) rfl rfl rfl ?_
      replace hf := bnE hf
      obtain ⟨h13, e_h13, hf⟩ := hf
      refine nd_hp e_h13 ?_
      refine nd_aload_n (j := 1) dX2_define_54 rfl rfl ?_
      refine nd_bipush (v := 61) dX2_define_55 (by decide) ?_
      replace hf := caE hf
      obtain ⟨v15, h14, e_h14, hf⟩ := hf
      refine nd_Vi [] (tX2_expect l w hfl F d k_p0 e_h14) rfl dX2_define_57 mw_X2_expect (Or.inl q361) k_p0 rfl q363 qs4 (by omega) (by omega) (Nat.le_of_ble_eq_true rfl) ?_
      refine nd_if_eq (tgt := 71) dX2_define_60 (by decide) (fun c16 => ?_) (fun c16 => ?_)
      · replace hf := ifp c16 hf
        refine nd_null dX2_define_71 ?_
        exact nd_loc [1, 0] rfl (tX2_define_72 l w hfl F d r _ _ _ k_p0 (fun b e => by cases e) _ hf)
      · replace hf := ifn c16 hf
        refine nd_aload_n (j := 1) dX2_define_63 rfl rfl ?_
        refine nd_iconst (v := 0) dX2_define_64 (by decide) ?_
        replace hf := caE hf
        obtain ⟨v18, h17, e_h17, hf⟩ := hf
        refine nd_Sr [] (tv_typeOf l w hfl F d k_p0 e_h17) rfl dX2_define_65 mw_X2_typeOf (Or.inl q365) q366 (by omega) (by omega) (Nat.le_of_ble_eq_true rfl) (fun ok19 => ?_)
        have ok_v18 : ∀ b, v18 = some b → [6, 7, 8, 9, 11, 12].contains (nd_Kd b) = true := fun b q => okT99 (ok19 b q)
        refine nd_goto (tgt := 72) dX2_define_68 (by decide) ?_
        exact nd_loc [1, 0] rfl (tX2_define_72 l w hfl F d r _ _ _ k_p0 ok_v18 _ hf)
    · replace hf := ocS e_a12 hf
      have k_a12 : [6, 7, 8, 9, 11, 12].contains (nd_Kd a12) = true := ok_o11 a12 e_a12
      subst e_a12
      refine nd_aload_n (j := 1) dX2_define_34 rfl rfl ?_
      refine nd_iconst (v := 2) dX2_define_35 (by decide) ?_
      refine nd_aload_n (j := 1) dX2_define_36 rfl rfl ?_
      refine nd_getI (k := 2) dX2_define_37 k_p0 rfl (Nat.le_of_ble_eq_true rfl) (nd_flO q145) rfl ?_
      replace hf := caE hf
      obtain ⟨v21, h20, e_h20, hf⟩ := hf
      refine nd_Vi [] (tX2_wrong l w hfl F d k_p0 e_h20) rfl dX2_define_40 mw_X2_wrong (Or.inl q357) k_p0 rfl q359 qs3 (by omega) (by omega) (Nat.le_of_ble_eq_true rfl) ?_
      replace hf := ckE hf
      obtain ⟨c22, hf⟩ := hf
      cases hf
      exact nd_zret (v := v21) c22 dX2_define_43
  · replace hf := ifp c3 hf
    refine nd_aload_n (j := 0) dX2_define_7 rfl rfl ?_
    refine nd_iconst (v := 1) dX2_define_8 (by decide) ?_
    refine nd_aload_n (j := 0) dX2_define_9 rfl rfl ?_
    refine nd_getI (k := 2) dX2_define_10 k_p0 rfl (Nat.le_of_ble_eq_true rfl) (nd_flO q145) rfl ?_
    replace hf := caE hf
    obtain ⟨v24, h23, e_h23, hf⟩ := hf
    refine nd_Vi [] (tX2_wrong l w hfl F d k_p0 e_h23) rfl dX2_define_13 mw_X2_wrong (Or.inl q357) k_p0 rfl q359 qs3 (by omega) (by omega) (Nat.le_of_ble_eq_true rfl) ?_
    replace hf := ckE hf
    obtain ⟨c25, hf⟩ := hf
    cases hf
    exact nd_zret (v := v24) c25 dX2_define_16
def fX2_run_36 (F d : Nat) : Nat → Nat → Hp → Option (Int32 × Hp)
  | 0, _, _ => none
  | n + 1, this, h =>
    ca (fX2_define F d this h) fun v2 h1 => (
    if v2 = 0 then
    (some (0, h1))
    else
    (if (gI h1 202 this) < (gI h1 201 this) then
    (fX2_run_36 F d n this h1)
    else
    (some (1, h1))))
def fX2_run_17 (F d : Nat) : Nat → Nat → Int32 → Hp → Option (Int32 × Hp)
  | 0, _, _, _ => none
  | n + 1, this, x1, h =>
    if 26 ≤ x1 then
    (fX2_run_36 F d F this h)
    else
    (nn (gP h 204 this) fun a3 => (
    ck (inb x1 (nd_Ln a3)) (
    bn (sR h a3 (Int32.toNatClampNeg x1) none) fun h5 => (
    bn (x1 + 1) fun v6 => (
    fX2_run_17 F d n this v6 h5)))))
def fX2_run (F d : Nat) (this : Nat) (h : Hp) : Option (Int32 × Hp) :=
  bn (sI h 202 this 0) fun h1 => (
  bn (sI h1 203 this 0) fun h2 => (
  bn (sI h2 212 this 0) fun h3 => (
  fX2_run_17 F d F this 0 h3)))
set_option maxHeartbeats 4000000 in
theorem tX2_run_36 (l : Launch) (w : Wd) (hfl : l.stackTraces = false) (F d : Nat) (r : Int32 × Hp) : ∀ (n : Nat) (this : Nat) (k_this : nd_Kd this = 1) (h : Hp), fX2_run_36 F d n this h = some r → nd_V l w yX2_run cX2_run 2 (some .boolean) (3 + 8 * d) (77 + 400 * d) (.inl (some (vi r.1)), r.2) h 36 [(0, vr (some this))] [] := by
  intro n
  induction n with
  | zero => intro _ _ _ hf; cases hf
  | succ n ih =>
    intro this k_this h hf
    unfold fX2_run_36 at hf
    refine nd_aload_n (j := 0) dX2_run_36 rfl rfl ?_
    replace hf := caE hf
    obtain ⟨v2, h1, e_h1, hf⟩ := hf
    refine nd_Si [] (tX2_define l w hfl F d k_this e_h1) rfl dX2_run_37 mw_X2_define (Or.inl q346) q347 (by omega) (by omega) (Nat.le_of_ble_eq_true rfl) ?_
    refine nd_if_eq (tgt := 56) dX2_run_40 (by decide) (fun c3 => ?_) (fun c3 => ?_)
    · replace hf := ifp c3 hf
      refine nd_iconst (v := 0) dX2_run_56 (by decide) ?_
      cases hf
      exact nd_zret (v := 0) (by decide) dX2_run_57
    · replace hf := ifn c3 hf
      refine nd_aload_n (j := 0) dX2_run_43 rfl rfl ?_
      refine nd_getI (k := 2) dX2_run_44 k_this rfl (Nat.le_of_ble_eq_true rfl) (nd_flO q145) rfl ?_
      refine nd_aload_n (j := 0) dX2_run_47 rfl rfl ?_
      refine nd_getI (k := 1) dX2_run_48 k_this rfl (Nat.le_of_ble_eq_true rfl) (nd_flO q143) rfl ?_
      refine nd_icmp_lt (tgt := 36) dX2_run_51 (by decide) (fun c4 => ?_) (fun c4 => ?_)
      · replace hf := ifp c4 hf
        exact nd_loc [0] rfl (ih _ k_this _ hf)
      · replace hf := ifn c4 hf
        refine nd_iconst (v := 1) dX2_run_54 (by decide) ?_
        cases hf
        exact nd_zret (v := 1) (by decide) dX2_run_55
set_option maxHeartbeats 4000000 in
theorem tX2_run_17 (l : Launch) (w : Wd) (hfl : l.stackTraces = false) (F d : Nat) (r : Int32 × Hp) : ∀ (n : Nat) (this : Nat) (x1 : Int32) (k_this : nd_Kd this = 1) (h : Hp), fX2_run_17 F d n this x1 h = some r → nd_V l w yX2_run cX2_run 2 (some .boolean) (3 + 8 * d) (77 + 400 * d) (.inl (some (vi r.1)), r.2) h 17 [(0, vr (some this)), (1, vi x1)] [] := by
  intro n
  induction n with
  | zero => intro _ _ _ _ hf; cases hf
  | succ n ih =>
    intro this x1 k_this h hf
    unfold fX2_run_17 at hf
    refine nd_iload_n (j := 1) dX2_run_17 rfl rfl ?_
    refine nd_bipush (v := 26) dX2_run_18 (by decide) ?_
    refine nd_icmp_ge (tgt := 36) dX2_run_20 (by decide) (fun c1 => ?_) (fun c1 => ?_)
    · replace hf := ifp c1 hf
      exact nd_loc [0] rfl (tX2_run_36 l w hfl F d r F _ k_this _ hf)
    · replace hf := ifn c1 hf
      refine nd_aload_n (j := 0) dX2_run_23 rfl rfl ?_
      refine nd_getP (k := 4) dX2_run_24 k_this rfl (Nat.le_of_ble_eq_true rfl) (nd_flO q148) rfl (fun ok2 => ?_)
      replace hf := nnE hf
      obtain ⟨a3, e_a3, hf⟩ := hf
      refine nd_topr e_a3.symm ?_
      have k_a3 : nd_Kd a3 = 24 := nd_c1 (ok2 a3 e_a3)
      refine nd_iload_n (j := 1) dX2_run_27 rfl rfl ?_
      refine nd_null dX2_run_28 ?_
      replace hf := ckE hf
      obtain ⟨c4, hf⟩ := hf
      refine nd_aast (t := 4) (C := "NotationDesk$Type") dX2_run_29 k_a3 (by decide) (fun _ => rfl) c4 (fun b e => by cases e) ?_
      replace hf := bnE hf
      obtain ⟨h5, e_h5, hf⟩ := hf
      refine nd_hp e_h5 ?_
      replace hf := bnE hf
      obtain ⟨v6, e_v6, hf⟩ := hf
      refine nd_iinc (v := v6) (j := 1) [(1, vi v6), (0, vr (some this))] dX2_run_30 rfl (by rw [e_v6]; rfl) (Nat.le_of_ble_eq_true rfl) rfl ?_
      refine nd_goto (tgt := 17) dX2_run_33 (by decide) ?_
      exact nd_loc [1, 0] rfl (ih _ _ k_this _ hf)
set_option maxHeartbeats 4000000 in
theorem tX2_run (l : Launch) (w : Wd) (hfl : l.stackTraces = false) (F d : Nat) {this : Nat} (k_this : nd_Kd this = 1) {h : Hp} {r : Int32 × Hp} (hf : fX2_run F d this h = some r) : nd_C l w yX2_run cX2_run 2 (some .boolean) (3 + 8 * d) (77 + 400 * d) [vr (some this)] h (.inl (some (vi r.1)), r.2) := by
  refine nd_start (as := [vr (some this)]) hfl (by decide) (Nat.le_of_ble_eq_true rfl) ?_
  unfold fX2_run at hf
  refine nd_eqL (L' := [(0, vr (some this))]) rfl ?_
  refine nd_aload_n (j := 0) dX2_run_0 rfl rfl ?_
  refine nd_iconst (v := 0) dX2_run_1 (by decide) ?_
  refine nd_putN (k := 2) dX2_run_2 k_this rfl (Nat.le_of_ble_eq_true rfl) (nd_flO q145) rfl rfl rfl ?_
  replace hf := bnE hf
  obtain ⟨h1, e_h1, hf⟩ := hf
  refine nd_hp e_h1 ?_
  refine nd_aload_n (j := 0) dX2_run_5 rfl rfl ?_
  refine nd_iconst (v := 0) dX2_run_6 (by decide) ?_
  refine nd_putN (k := 3) dX2_run_7 k_this rfl (Nat.le_of_ble_eq_true rfl) (nd_flO q146) rfl rfl rfl ?_
  replace hf := bnE hf
  obtain ⟨h2, e_h2, hf⟩ := hf
  refine nd_hp e_h2 ?_
  refine nd_aload_n (j := 0) dX2_run_10 rfl rfl ?_
  refine nd_iconst (v := 0) dX2_run_11 (by decide) ?_
  refine nd_putN (k := 12) dX2_run_12 k_this rfl (Nat.le_of_ble_eq_true rfl) (nd_flO q157) rfl rfl rfl ?_
  replace hf := bnE hf
  obtain ⟨h3, e_h3, hf⟩ := hf
  refine nd_hp e_h3 ?_
  refine nd_iconst (v := 0) dX2_run_15 (by decide) ?_
  refine nd_istore_n [(1, vi 0), (0, vr (some this))] dX2_run_16 rfl (Nat.le_of_ble_eq_true rfl) rfl ?_
  exact nd_loc [1, 0] rfl (tX2_run_17 l w hfl F d r F _ _ k_this _ hf)
def fX1_bytesOf (F d : Nat) (p0 : Int32) (h : Hp) : Option (Int32 × Hp) :=
  ca (fX1_outside F d p0 (-128) 127 h) fun v2 h1 => (
  if v2 = 0 then
  (some (1, h1))
  else
  (ca (fX1_outside F d p0 (-32768) 32767 h1) fun v5 h4 => (
  if v5 = 0 then
  (some (2, h4))
  else
  (ca (fX1_outside F d p0 (-8388608) 8388607 h4) fun v8 h7 => (
  if v8 = 0 then
  (some (3, h7))
  else
  (some (4, h7)))))))
set_option maxHeartbeats 4000000 in
theorem tX1_bytesOf (l : Launch) (w : Wd) (hfl : l.stackTraces = false) (F d : Nat) {p0 : Int32}  {h : Hp} {r : Int32 × Hp} (hf : fX1_bytesOf F d p0 h = some r) : nd_C l w yX1_bytesOf cX1_bytesOf 1 (some .int) 1 22 [vi p0] h (.inl (some (vi r.1)), r.2) := by
  refine nd_start (as := [vi p0]) hfl (by decide) (Nat.le_of_ble_eq_true rfl) ?_
  unfold fX1_bytesOf at hf
  refine nd_eqL (L' := [(0, vi p0)]) rfl ?_
  refine nd_iload_n (j := 0) dX1_bytesOf_0 rfl rfl ?_
  refine nd_bipush (v := (-128)) dX1_bytesOf_1 (by decide) ?_
  refine nd_bipush (v := 127) dX1_bytesOf_3 (by decide) ?_
  replace hf := caE hf
  obtain ⟨v2, h1, e_h1, hf⟩ := hf
  refine nd_Si [] (tX1_outside l w hfl F d e_h1) rfl dX1_bytesOf_5 mw_X1_outside (Or.inl q676) q516 (by omega) (by omega) (Nat.le_of_ble_eq_true rfl) ?_
  refine nd_if_ne (tgt := 15) dX1_bytesOf_8 (by decide) (fun c3 => ?_) (fun c3 => ?_)
  · replace hf := ifn c3 hf
    refine nd_iload_n (j := 0) dX1_bytesOf_15 rfl rfl ?_
    refine nd_sipush (v := (-32768)) dX1_bytesOf_16 (by decide) ?_
    refine nd_sipush (v := 32767) dX1_bytesOf_19 (by decide) ?_
    replace hf := caE hf
    obtain ⟨v5, h4, e_h4, hf⟩ := hf
    refine nd_Si [] (tX1_outside l w hfl F d e_h4) rfl dX1_bytesOf_22 mw_X1_outside (Or.inl q676) q516 (by omega) (by omega) (Nat.le_of_ble_eq_true rfl) ?_
    refine nd_if_ne (tgt := 32) dX1_bytesOf_25 (by decide) (fun c6 => ?_) (fun c6 => ?_)
    · replace hf := ifn c6 hf
      refine nd_iload_n (j := 0) dX1_bytesOf_32 rfl rfl ?_
      refine nd_ldc (v := (-8388608)) dX1_bytesOf_33 q965 ?_
      refine nd_ldc (v := 8388607) dX1_bytesOf_35 q966 ?_
      replace hf := caE hf
      obtain ⟨v8, h7, e_h7, hf⟩ := hf
      refine nd_Si [] (tX1_outside l w hfl F d e_h7) rfl dX1_bytesOf_37 mw_X1_outside (Or.inl q676) q516 (by omega) (by omega) (Nat.le_of_ble_eq_true rfl) ?_
      refine nd_if_ne (tgt := 47) dX1_bytesOf_40 (by decide) (fun c9 => ?_) (fun c9 => ?_)
      · replace hf := ifn c9 hf
        refine nd_iconst (v := 4) dX1_bytesOf_47 (by decide) ?_
        cases hf
        exact nd_iret (v := 4) dX1_bytesOf_48
      · replace hf := ifp c9 hf
        refine nd_iconst (v := 3) dX1_bytesOf_43 (by decide) ?_
        refine nd_goto (tgt := 48) dX1_bytesOf_44 (by decide) ?_
        cases hf
        exact nd_iret (v := 3) dX1_bytesOf_48
    · replace hf := ifp c6 hf
      refine nd_iconst (v := 2) dX1_bytesOf_28 (by decide) ?_
      refine nd_goto (tgt := 48) dX1_bytesOf_29 (by decide) ?_
      cases hf
      exact nd_iret (v := 2) dX1_bytesOf_48
  · replace hf := ifp c3 hf
    refine nd_iconst (v := 1) dX1_bytesOf_11 (by decide) ?_
    refine nd_goto (tgt := 48) dX1_bytesOf_12 (by decide) ?_
    cases hf
    exact nd_iret (v := 1) dX1_bytesOf_48
def fX9_content (F d : Nat) (this : Nat) (p0 : Nat) (h : Hp) : Option (Int32 × Hp) :=
  if (gI h 900 this) = 5 then
  (some (0, h))
  else
  (if (gI h 900 this) = 1 then
  (some (1, h))
  else
  (ca (fX1_bytesOf F d (gI h 1701 p0) h) fun v4 h3 => (
  some (v4, h3))))
set_option maxHeartbeats 4000000 in
theorem tX9_content (l : Launch) (w : Wd) (hfl : l.stackTraces = false) (F d : Nat) {this : Nat} {p0 : Nat} (k_this : nd_Kd this = 6) (k_p0 : nd_Kd p0 = 13) {h : Hp} {r : Int32 × Hp} (hf : fX9_content F d this p0 h = some r) : nd_C l w yX9_content cX9_content 2 (some .int) 2 42 [vr (some this), vr (some p0)] h (.inl (some (vi r.1)), r.2) := by
  refine nd_start (as := [vr (some this), vr (some p0)]) hfl (by decide) (Nat.le_of_ble_eq_true rfl) ?_
  unfold fX9_content at hf
  refine nd_eqL (L' := [(0, vr (some this)), (1, vr (some p0))]) rfl ?_
  refine nd_aload_n (j := 0) dX9_content_0 rfl rfl ?_
  refine nd_getI (k := 1) dX9_content_1 k_this rfl (Nat.le_of_ble_eq_true rfl) (nd_flO q424) rfl ?_
  refine nd_iconst (v := 5) dX9_content_4 (by decide) ?_
  refine nd_icmp_ne (tgt := 12) dX9_content_5 (by decide) (fun c1 => ?_) (fun c1 => ?_)
  · replace hf := ifn c1 hf
    refine nd_aload_n (j := 0) dX9_content_12 rfl rfl ?_
    refine nd_getI (k := 1) dX9_content_13 k_this rfl (Nat.le_of_ble_eq_true rfl) (nd_flO q424) rfl ?_
    refine nd_iconst (v := 1) dX9_content_16 (by decide) ?_
    refine nd_icmp_ne (tgt := 24) dX9_content_17 (by decide) (fun c2 => ?_) (fun c2 => ?_)
    · replace hf := ifn c2 hf
      refine nd_aload_n (j := 1) dX9_content_24 rfl rfl ?_
      refine nd_getI (k := 1) dX9_content_25 k_p0 rfl (Nat.le_of_ble_eq_true rfl) (nd_flN q911) rfl ?_
      replace hf := caE hf
      obtain ⟨v4, h3, e_h3, hf⟩ := hf
      refine nd_Si [] (tX1_bytesOf l w hfl F d e_h3) rfl dX9_content_28 mw_X1_bytesOf (Or.inr ⟨_, q962⟩) q963 (by omega) (by omega) (Nat.le_of_ble_eq_true rfl) ?_
      cases hf
      exact nd_iret (v := v4) dX9_content_31
    · replace hf := ifp c2 hf
      refine nd_iconst (v := 1) dX9_content_20 (by decide) ?_
      refine nd_goto (tgt := 31) dX9_content_21 (by decide) ?_
      cases hf
      exact nd_iret (v := 1) dX9_content_31
  · replace hf := ifp c1 hf
    refine nd_iconst (v := 0) dX9_content_8 (by decide) ?_
    refine nd_goto (tgt := 31) dX9_content_9 (by decide) ?_
    cases hf
    exact nd_iret (v := 0) dX9_content_31
def fX9_given (F d : Nat) (this : Nat) (p0 : Nat) (p1 : Int32) (h : Hp) : Option (Option Nat × Hp) :=
  ca (fX3_make F d p0 (gI h 900 this) p1 h) fun v2 h1 => (
  some (v2, h1))
set_option maxHeartbeats 4000000 in
theorem tX9_given (l : Launch) (w : Wd) (hfl : l.stackTraces = false) (F d : Nat) {this : Nat} {p0 : Nat} {p1 : Int32} (k_this : nd_Kd this = 6) (k_p0 : nd_Kd p0 = 2) {h : Hp} {r : Option Nat × Hp} (hf : fX9_given F d this p0 p1 h = some r) : nd_C l w yX9_given cX9_given 3 (some (.object "NotationDesk$Part")) 3 83 [vr (some this), vr (some p0), vi p1] h (.inl (some (vr r.1)), r.2) := by
  refine nd_start (as := [vr (some this), vr (some p0), vi p1]) hfl (by decide) (Nat.le_of_ble_eq_true rfl) ?_
  unfold fX9_given at hf
  refine nd_eqL (L' := [(0, vr (some this)), (1, vr (some p0)), (2, vi p1)]) rfl ?_
  refine nd_aload_n (j := 1) dX9_given_0 rfl rfl ?_
  refine nd_aload_n (j := 0) dX9_given_1 rfl rfl ?_
  refine nd_getI (k := 1) dX9_given_2 k_this rfl (Nat.le_of_ble_eq_true rfl) (nd_flO q424) rfl ?_
  refine nd_iload_n (j := 2) dX9_given_5 rfl rfl ?_
  replace hf := caE hf
  obtain ⟨v2, h1, e_h1, hf⟩ := hf
  refine nd_Vr [] (tX3_make l w hfl F d k_p0 e_h1) rfl dX9_given_6 mw_X3_make (Or.inl q960) k_p0 rfl q897 q898 (by omega) (by omega) (Nat.le_of_ble_eq_true rfl) (fun ok3 => ?_)
  have ok_v2 : ∀ b, v2 = some b → [13].contains (nd_Kd b) = true := fun b q => okT13 (ok3 b q)
  cases hf
  exact nd_aret (fun b e => okT13' (ok_v2 b e)) dX9_given_9
def fX5_add (F d : Nat) (this : Nat) (p0 : Int32) (h : Hp) : Option (Hp) :=
  cv (fX5_put F d this p0 8 h) fun h1 => (
  some h1)
set_option maxHeartbeats 4000000 in
theorem tX5_add (l : Launch) (w : Wd) (hfl : l.stackTraces = false) (F d : Nat) {this : Nat} {p0 : Int32} (k_this : nd_Kd this = 4) {h : Hp} {r : Hp} (hf : fX5_add F d this p0 h = some r) : nd_C l w yX5_add cX5_add 2 none 1 23 [vr (some this), vi p0] h (.inl none, r) := by
  refine nd_start (as := [vr (some this), vi p0]) hfl (by decide) (Nat.le_of_ble_eq_true rfl) ?_
  unfold fX5_add at hf
  refine nd_eqL (L' := [(0, vr (some this)), (1, vi p0)]) rfl ?_
  refine nd_aload_n (j := 0) dX5_add_0 rfl rfl ?_
  refine nd_iload_n (j := 1) dX5_add_1 rfl rfl ?_
  refine nd_bipush (v := 8) dX5_add_2 (by decide) ?_
  replace hf := cvE hf
  obtain ⟨h1, e_h1, hf⟩ := hf
  refine nd_Vv [] (tX5_put l w hfl F d k_this e_h1) rfl dX5_add_4 mw_X5_put (Or.inl q1139) k_this rfl q1140 q1141 (by omega) (by omega) (Nat.le_of_ble_eq_true rfl) ?_
  cases hf
  exact nd_vret dX5_add_7
def fX5_putInt_9 (F d : Nat) : Nat → Nat → Int32 → Int32 → Hp → Option (Hp)
  | 0, _, _, _, _ => none
  | n + 1, this, x1, x3, h =>
    if x3 < 0 then
    (some h)
    else
    (cv (fX5_add F d this ((x1 >>> ((8 * x3) &&& 31)) &&& 255) h) fun h2 => (
    bn (x3 + (-1)) fun v4 => (
    fX5_putInt_9 F d n this x1 v4 h2)))
def fX5_putInt (F d : Nat) (this : Nat) (p0 : Int32) (h : Hp) : Option (Hp) :=
  ca (fX1_bytesOf F d p0 h) fun v2 h1 => (
  bn (v2 - 1) fun v3 => (
  fX5_putInt_9 F d F this p0 v3 h1))
set_option maxHeartbeats 4000000 in
theorem tX5_putInt_9 (l : Launch) (w : Wd) (hfl : l.stackTraces = false) (F d : Nat) (r : Hp) : ∀ (n : Nat) (this : Nat) (x1 : Int32) (x3 : Int32) (k_this : nd_Kd this = 4) (h : Hp), fX5_putInt_9 F d n this x1 x3 h = some r → nd_V l w yX5_putInt cX5_putInt 4 none 2 44 (.inl none, r) h 9 [(0, vr (some this)), (1, vi x1), (3, vi x3)] [] := by
  intro n
  induction n with
  | zero => intro _ _ _ _ _ hf; cases hf
  | succ n ih =>
    intro this x1 x3 k_this h hf
    unfold fX5_putInt_9 at hf
    refine nd_iload_n (j := 2) dX5_putInt_9 rfl rfl ?_
    refine nd_if_lt (tgt := 33) dX5_putInt_10 (by decide) (fun c1 => ?_) (fun c1 => ?_)
    · replace hf := ifp c1 hf
      cases hf
      exact nd_vret dX5_putInt_33
    · replace hf := ifn c1 hf
      refine nd_aload_n (j := 0) dX5_putInt_13 rfl rfl ?_
      refine nd_iload_n (j := 1) dX5_putInt_14 rfl rfl ?_
      refine nd_bipush (v := 8) dX5_putInt_15 (by decide) ?_
      refine nd_iload_n (j := 2) dX5_putInt_17 rfl rfl ?_
      refine nd_imul dX5_putInt_18 ?_
      refine nd_ishr dX5_putInt_19 ?_
      refine nd_sipush (v := 255) dX5_putInt_20 (by decide) ?_
      refine nd_iand dX5_putInt_23 ?_
      replace hf := cvE hf
      obtain ⟨h2, e_h2, hf⟩ := hf
      refine nd_Vv [] (tX5_add l w hfl F d k_this e_h2) rfl dX5_putInt_24 mw_X5_add (Or.inl q1135) k_this rfl q1136 q1137 (by omega) (by omega) (Nat.le_of_ble_eq_true rfl) ?_
      replace hf := bnE hf
      obtain ⟨v4, e_v4, hf⟩ := hf
      refine nd_iinc (v := v4) (j := 2) [(3, vi v4), (0, vr (some this)), (1, vi x1)] dX5_putInt_27 rfl (by rw [e_v4]; rfl) (Nat.le_of_ble_eq_true rfl) rfl ?_
      refine nd_goto (tgt := 9) dX5_putInt_30 (by decide) ?_
      exact nd_loc [1, 2, 0] rfl (ih _ _ _ k_this _ hf)
set_option maxHeartbeats 4000000 in
theorem tX5_putInt (l : Launch) (w : Wd) (hfl : l.stackTraces = false) (F d : Nat) {this : Nat} {p0 : Int32} (k_this : nd_Kd this = 4) {h : Hp} {r : Hp} (hf : fX5_putInt F d this p0 h = some r) : nd_C l w yX5_putInt cX5_putInt 4 none 2 44 [vr (some this), vi p0] h (.inl none, r) := by
  refine nd_start (as := [vr (some this), vi p0]) hfl (by decide) (Nat.le_of_ble_eq_true rfl) ?_
  unfold fX5_putInt at hf
  refine nd_eqL (L' := [(0, vr (some this)), (1, vi p0)]) rfl ?_
  refine nd_iload_n (j := 1) dX5_putInt_0 rfl rfl ?_
  replace hf := caE hf
  obtain ⟨v2, h1, e_h1, hf⟩ := hf
  refine nd_Si [] (tX1_bytesOf l w hfl F d e_h1) rfl dX5_putInt_1 mw_X1_bytesOf (Or.inr ⟨_, q1154⟩) q963 (by omega) (by omega) (Nat.le_of_ble_eq_true rfl) ?_
  refine nd_istore_n [(2, vi v2), (0, vr (some this)), (1, vi p0)] dX5_putInt_4 rfl (Nat.le_of_ble_eq_true rfl) rfl ?_
  refine nd_iload_n (j := 0) dX5_putInt_5 rfl rfl ?_
  refine nd_iconst (v := 1) dX5_putInt_6 (by decide) ?_
  refine nd_isub dX5_putInt_7 ?_
  replace hf := bnE hf
  obtain ⟨v3, e_v3, hf⟩ := hf
  refine nd_top e_v3 ?_
  refine nd_istore_n [(3, vi v3), (2, vi v2), (0, vr (some this)), (1, vi p0)] dX5_putInt_8 rfl (Nat.le_of_ble_eq_true rfl) rfl ?_
  exact nd_loc [2, 3, 0] rfl (tX5_putInt_9 l w hfl F d r F _ _ _ k_this _ hf)
def fX9_pack (F d : Nat) (this : Nat) (p0 : Nat) (p1 : Nat) (h : Hp) : Option (Hp) :=
  if (gI h 901 this) = 0 then
  (ca (fX1_bytesOf F d (gI h 1701 p0) h) fun v3 h2 => (
  cv (fX5_putNumber F d p1 v3 0 255 h2) fun h4 => (
  cv (fX5_putInt F d p1 (gI h4 1701 p0) h4) fun h6 => (
  some h6))))
  else
  (cv (fX5_putNumber F d p1 (gI h 1701 p0) (gI h 902 this) (gI h 903 this) h) fun h8 => (
  some h8))
set_option maxHeartbeats 4000000 in
theorem tX9_pack (l : Launch) (w : Wd) (hfl : l.stackTraces = false) (F d : Nat) {this : Nat} {p0 : Nat} {p1 : Nat} (k_this : nd_Kd this = 6) (k_p0 : nd_Kd p0 = 13) (k_p1 : nd_Kd p1 = 4) {h : Hp} {r : Hp} (hf : fX9_pack F d this p0 p1 h = some r) : nd_C l w yX9_pack cX9_pack 3 none 3 67 [vr (some this), vr (some p0), vr (some p1)] h (.inl none, r) := by
  refine nd_start (as := [vr (some this), vr (some p0), vr (some p1)]) hfl (by decide) (Nat.le_of_ble_eq_true rfl) ?_
  unfold fX9_pack at hf
  refine nd_eqL (L' := [(0, vr (some this)), (1, vr (some p0)), (2, vr (some p1))]) rfl ?_
  refine nd_aload_n (j := 0) dX9_pack_0 rfl rfl ?_
  refine nd_getI (k := 2) dX9_pack_1 k_this rfl (Nat.le_of_ble_eq_true rfl) (nd_flO q425) rfl ?_
  refine nd_if_eq (tgt := 24) dX9_pack_4 (by decide) (fun c1 => ?_) (fun c1 => ?_)
  · replace hf := ifp c1 hf
    refine nd_aload_n (j := 2) dX9_pack_24 rfl rfl ?_
    refine nd_aload_n (j := 1) dX9_pack_25 rfl rfl ?_
    refine nd_getI (k := 1) dX9_pack_26 k_p0 rfl (Nat.le_of_ble_eq_true rfl) (nd_flN q911) rfl ?_
    replace hf := caE hf
    obtain ⟨v3, h2, e_h2, hf⟩ := hf
    refine nd_Si [vr (some p1)] (tX1_bytesOf l w hfl F d e_h2) rfl dX9_pack_29 mw_X1_bytesOf (Or.inr ⟨_, q962⟩) q963 (by omega) (by omega) (Nat.le_of_ble_eq_true rfl) ?_
    refine nd_iconst (v := 0) dX9_pack_32 (by decide) ?_
    refine nd_sipush (v := 255) dX9_pack_33 (by decide) ?_
    replace hf := cvE hf
    obtain ⟨h4, e_h4, hf⟩ := hf
    refine nd_Vv [] (tX5_putNumber l w hfl F d k_p1 e_h4) rfl dX9_pack_36 mw_X5_putNumber (Or.inl q1242) k_p1 rfl q1227 q1228 (by omega) (by omega) (Nat.le_of_ble_eq_true rfl) ?_
    refine nd_aload_n (j := 2) dX9_pack_39 rfl rfl ?_
    refine nd_aload_n (j := 1) dX9_pack_40 rfl rfl ?_
    refine nd_getI (k := 1) dX9_pack_41 k_p0 rfl (Nat.le_of_ble_eq_true rfl) (nd_flN q911) rfl ?_
    replace hf := cvE hf
    obtain ⟨h6, e_h6, hf⟩ := hf
    refine nd_Vv [] (tX5_putInt l w hfl F d k_p1 e_h6) rfl dX9_pack_44 mw_X5_putInt (Or.inl q1150) k_p1 rfl q1151 q1152 (by omega) (by omega) (Nat.le_of_ble_eq_true rfl) ?_
    cases hf
    exact nd_vret dX9_pack_47
  · replace hf := ifn c1 hf
    refine nd_aload_n (j := 2) dX9_pack_7 rfl rfl ?_
    refine nd_aload_n (j := 1) dX9_pack_8 rfl rfl ?_
    refine nd_getI (k := 1) dX9_pack_9 k_p0 rfl (Nat.le_of_ble_eq_true rfl) (nd_flN q911) rfl ?_
    refine nd_aload_n (j := 0) dX9_pack_12 rfl rfl ?_
    refine nd_getI (k := 3) dX9_pack_13 k_this rfl (Nat.le_of_ble_eq_true rfl) (nd_flO q426) rfl ?_
    refine nd_aload_n (j := 0) dX9_pack_16 rfl rfl ?_
    refine nd_getI (k := 4) dX9_pack_17 k_this rfl (Nat.le_of_ble_eq_true rfl) (nd_flO q427) rfl ?_
    replace hf := cvE hf
    obtain ⟨h8, e_h8, hf⟩ := hf
    refine nd_Vv [] (tX5_putNumber l w hfl F d k_p1 e_h8) rfl dX9_pack_20 mw_X5_putNumber (Or.inl q1242) k_p1 rfl q1227 q1228 (by omega) (by omega) (Nat.le_of_ble_eq_true rfl) ?_
    cases hf
    exact nd_vret dX9_pack_23
def fX4_next (F d : Nat) (this : Nat) (h : Hp) : Option (Int32 × Hp) :=
  if (gI h 401 this) < (gI h 402 this) then
  (bn (sI h 401 this ((gI h 401 this) + 1)) fun h2 => (
  nn (gP h2 400 this) fun a4 => (
  ck (inb ((gI h2 401 this) - 1) (nd_Ln a4)) (
  some ((gA h2 a4 (Int32.toNatClampNeg ((gI h2 401 this) - 1))), h2)))))
  else
  (some ((-1), h))
set_option maxHeartbeats 4000000 in
theorem tX4_next (l : Launch) (w : Wd) (hfl : l.stackTraces = false) (F d : Nat) {this : Nat} (k_this : nd_Kd this = 3) {h : Hp} {r : Int32 × Hp} (hf : fX4_next F d this h = some r) : nd_C l w yX4_next cX4_next 1 (some .int) 0 0 [vr (some this)] h (.inl (some (vi r.1)), r.2) := by
  refine nd_start (as := [vr (some this)]) hfl (by decide) (Nat.le_of_ble_eq_true rfl) ?_
  unfold fX4_next at hf
  refine nd_eqL (L' := [(0, vr (some this))]) rfl ?_
  refine nd_aload_n (j := 0) dX4_next_0 rfl rfl ?_
  refine nd_getI (k := 1) dX4_next_1 k_this rfl (Nat.le_of_ble_eq_true rfl) (nd_flO q232) rfl ?_
  refine nd_aload_n (j := 0) dX4_next_4 rfl rfl ?_
  refine nd_getI (k := 2) dX4_next_5 k_this rfl (Nat.le_of_ble_eq_true rfl) (nd_flO q234) rfl ?_
  refine nd_icmp_lt (tgt := 13) dX4_next_8 (by decide) (fun c1 => ?_) (fun c1 => ?_)
  · replace hf := ifp c1 hf
    refine nd_aload_n (j := 0) dX4_next_13 rfl rfl ?_
    refine nd_dup dX4_next_14 rfl ?_
    refine nd_getI (k := 1) dX4_next_15 k_this rfl (Nat.le_of_ble_eq_true rfl) (nd_flO q232) rfl ?_
    refine nd_iconst (v := 1) dX4_next_18 (by decide) ?_
    refine nd_iadd dX4_next_19 ?_
    refine nd_putN (k := 1) dX4_next_20 k_this rfl (Nat.le_of_ble_eq_true rfl) (nd_flO q232) rfl rfl rfl ?_
    replace hf := bnE hf
    obtain ⟨h2, e_h2, hf⟩ := hf
    refine nd_hp e_h2 ?_
    refine nd_aload_n (j := 0) dX4_next_23 rfl rfl ?_
    refine nd_getP (k := 0) dX4_next_24 k_this rfl (Nat.le_of_ble_eq_true rfl) (nd_flO q231) rfl (fun ok3 => ?_)
    replace hf := nnE hf
    obtain ⟨a4, e_a4, hf⟩ := hf
    refine nd_topr e_a4.symm ?_
    have k_a4 : nd_Kd a4 = 20 := nd_c1 (ok3 a4 e_a4)
    refine nd_aload_n (j := 0) dX4_next_27 rfl rfl ?_
    refine nd_getI (k := 1) dX4_next_28 k_this rfl (Nat.le_of_ble_eq_true rfl) (nd_flO q232) rfl ?_
    refine nd_iconst (v := 1) dX4_next_31 (by decide) ?_
    refine nd_isub dX4_next_32 ?_
    replace hf := ckE hf
    obtain ⟨c5, hf⟩ := hf
    refine nd_iald dX4_next_33 k_a4 c5 ?_
    cases hf
    exact nd_iret (v := (gA h2 a4 (Int32.toNatClampNeg ((gI h2 401 this) - 1)))) dX4_next_34
  · replace hf := ifn c1 hf
    refine nd_iconst (v := (-1)) dX4_next_11 (by decide) ?_
    cases hf
    exact nd_iret (v := (-1)) dX4_next_12
def fX9_readContent_111 (F d : Nat) (this : Nat) (x1 : Nat) (x3 : Int32) (h : Hp) : Option (Option Nat × Hp) :=
  ca (fX9_isRight F d this x3 h) fun v2 h1 => (
  if v2 = 0 then
  (some (none, h1))
  else
  (nn (gP h1 404 x1) fun a5 => (
  ca (fX9_given F d this a5 x3 h1) fun v7 h6 => (
  some (v7, h6)))))
def fX9_readContent_97 (F d : Nat) (this : Nat) (x1 : Nat) (s0 : Int32) (h : Hp) : Option (Option Nat × Hp) :=
  fX9_readContent_111 F d this x1 s0 h
def fX9_readContent_58 (F d : Nat) : Nat → Nat → Nat → Int32 → Int32 → Int32 → Hp → Option (Option Nat × Hp)
  | 0, _, _, _, _, _, _ => none
  | n + 1, this, x1, x2, x3, x4, h =>
    if x2 ≤ x4 then
    (if (gI h 900 this) = 1 then
    (if x3 = 0 then
    (fX9_readContent_97 F d this x1 0 h)
    else
    (fX9_readContent_97 F d this x1 1 h))
    else
    (ca (fX1_bytesOf F d x3 h) fun v4 h3 => (
    if v4 = x2 then
    (fX9_readContent_111 F d this x1 x3 h3)
    else
    (some (none, h3)))))
    else
    (ca (fX4_next F d x1 h) fun v8 h7 => (
    bn ((x3 <<< (8 &&& 31)) ||| v8) fun v9 => (
    bn (x4 + 1) fun v10 => (
    fX9_readContent_58 F d n this x1 x2 v9 v10 h7))))
def fX9_readContent_41 (F d : Nat) (this : Nat) (x1 : Nat) (x2 : Int32) (s0 : Int32) (s1 : Int32) (s2 : Int32) (h : Hp) : Option (Option Nat × Hp) :=
  ca (fX1_outside F d s0 s1 s2 h) fun v2 h1 => (
  if v2 = 0 then
  (ca (fX4_next F d x1 h1) fun v5 h4 => (
  bn (Int8.toInt32 (Int32.toInt8 v5)) fun v6 => (
  fX9_readContent_58 F d F this x1 x2 v6 1 h4)))
  else
  (some (none, h1)))
def fX9_readContent (F d : Nat) (this : Nat) (p0 : Nat) (p1 : Int32) (h : Hp) : Option (Option Nat × Hp) :=
  if (gI h 900 this) = 5 then
  (if p1 = 0 then
  (nn (gP h 404 p0) fun a5 => (
  ca (fX9_given F d this a5 0 h) fun v7 h6 => (
  some (v7, h6))))
  else
  (some (none, h)))
  else
  (if (gI h 900 this) = 1 then
  (fX9_readContent_41 F d this p0 p1 p1 1 1 h)
  else
  (fX9_readContent_41 F d this p0 p1 p1 1 4 h))
set_option maxHeartbeats 4000000 in
theorem tX9_readContent_111 (l : Launch) (w : Wd) (hfl : l.stackTraces = false) (F d : Nat) (r : Option Nat × Hp) (this : Nat) (x1 : Nat) (x3 : Int32) (k_this : nd_Kd this = 6) (k_x1 : nd_Kd x1 = 3) (h : Hp) (hf : fX9_readContent_111 F d this x1 x3 h = some r) : nd_V l w yX9_readContent cX9_readContent 5 (some (.object "NotationDesk$Part")) 4 105 (.inl (some (vr r.1)), r.2) h 111 [(0, vr (some this)), (1, vr (some x1)), (3, vi x3)] [] := by
  unfold fX9_readContent_111 at hf
  refine nd_aload_n (j := 0) dX9_readContent_111 rfl rfl ?_
  refine nd_iload_n (j := 2) dX9_readContent_112 rfl rfl ?_
  replace hf := caE hf
  obtain ⟨v2, h1, e_h1, hf⟩ := hf
  refine nd_Vi [] (tX9_isRight l w hfl F d k_this e_h1) rfl dX9_readContent_113 mw_X9_isRight (Or.inl q511) k_this rfl q513 qs13 (by omega) (by omega) (Nat.le_of_ble_eq_true rfl) ?_
  refine nd_if_eq (tgt := 131) dX9_readContent_116 (by decide) (fun c3 => ?_) (fun c3 => ?_)
  · replace hf := ifp c3 hf
    refine nd_null dX9_readContent_131 ?_
    cases hf
    exact nd_aret (fun b e => by cases e) dX9_readContent_132
  · replace hf := ifn c3 hf
    refine nd_aload_n (j := 0) dX9_readContent_119 rfl rfl ?_
    refine nd_aload_n (j := 1) dX9_readContent_120 rfl rfl ?_
    refine nd_getP (k := 4) dX9_readContent_121 k_x1 rfl (Nat.le_of_ble_eq_true rfl) (nd_flN q241) rfl (fun ok4 => ?_)
    replace hf := nnE hf
    obtain ⟨a5, e_a5, hf⟩ := hf
    refine nd_topr e_a5.symm ?_
    have k_a5 : nd_Kd a5 = 2 := nd_c1 (ok4 a5 e_a5)
    refine nd_iload_n (j := 2) dX9_readContent_124 rfl rfl ?_
    replace hf := caE hf
    obtain ⟨v7, h6, e_h6, hf⟩ := hf
    refine nd_Vr [] (tX9_given l w hfl F d k_this k_a5 e_h6) rfl dX9_readContent_125 mw_X9_given (Or.inl q956) k_this rfl q957 q958 (by omega) (by omega) (Nat.le_of_ble_eq_true rfl) (fun ok8 => ?_)
    have ok_v7 : ∀ b, v7 = some b → [13].contains (nd_Kd b) = true := fun b q => okT13 (ok8 b q)
    refine nd_goto (tgt := 132) dX9_readContent_128 (by decide) ?_
    cases hf
    exact nd_aret (fun b e => okT13' (ok_v7 b e)) dX9_readContent_132
set_option maxHeartbeats 4000000 in
theorem tX9_readContent_97 (l : Launch) (w : Wd) (hfl : l.stackTraces = false) (F d : Nat) (r : Option Nat × Hp) (this : Nat) (x1 : Nat) (s0 : Int32) (k_this : nd_Kd this = 6) (k_x1 : nd_Kd x1 = 3) (h : Hp) (hf : fX9_readContent_97 F d this x1 s0 h = some r) : nd_V l w yX9_readContent cX9_readContent 5 (some (.object "NotationDesk$Part")) 4 105 (.inl (some (vr r.1)), r.2) h 97 [(0, vr (some this)), (1, vr (some x1))] [vi s0] := by
  unfold fX9_readContent_97 at hf
  refine nd_istore_n [(3, vi s0), (0, vr (some this)), (1, vr (some x1))] dX9_readContent_97 rfl (Nat.le_of_ble_eq_true rfl) rfl ?_
  refine nd_goto (tgt := 111) dX9_readContent_98 (by decide) ?_
  exact nd_loc [1, 2, 0] rfl (tX9_readContent_111 l w hfl F d r _ _ _ k_this k_x1 _ hf)
set_option maxHeartbeats 4000000 in
theorem tX9_readContent_58 (l : Launch) (w : Wd) (hfl : l.stackTraces = false) (F d : Nat) (r : Option Nat × Hp) : ∀ (n : Nat) (this : Nat) (x1 : Nat) (x2 : Int32) (x3 : Int32) (x4 : Int32) (k_this : nd_Kd this = 6) (k_x1 : nd_Kd x1 = 3) (h : Hp), fX9_readContent_58 F d n this x1 x2 x3 x4 h = some r → nd_V l w yX9_readContent cX9_readContent 5 (some (.object "NotationDesk$Part")) 4 105 (.inl (some (vr r.1)), r.2) h 58 [(0, vr (some this)), (1, vr (some x1)), (2, vi x2), (3, vi x3), (4, vi x4)] [] := by
  intro n
  induction n with
  | zero => intro _ _ _ _ _ _ _ _ hf; cases hf
  | succ n ih =>
    intro this x1 x2 x3 x4 k_this k_x1 h hf
    unfold fX9_readContent_58 at hf
    refine nd_iload (j := 4) dX9_readContent_58 rfl ?_
    refine nd_iload_n (j := 2) dX9_readContent_60 rfl rfl ?_
    refine nd_icmp_ge (tgt := 80) dX9_readContent_61 (by decide) (fun c1 => ?_) (fun c1 => ?_)
    · replace hf := ifp c1 hf
      refine nd_aload_n (j := 0) dX9_readContent_80 rfl rfl ?_
      refine nd_getI (k := 1) dX9_readContent_81 k_this rfl (Nat.le_of_ble_eq_true rfl) (nd_flO q424) rfl ?_
      refine nd_iconst (v := 1) dX9_readContent_84 (by decide) ?_
      refine nd_icmp_ne (tgt := 101) dX9_readContent_85 (by decide) (fun c2 => ?_) (fun c2 => ?_)
      · replace hf := ifn c2 hf
        refine nd_iload_n (j := 3) dX9_readContent_101 rfl rfl ?_
        replace hf := caE hf
        obtain ⟨v4, h3, e_h3, hf⟩ := hf
        refine nd_Si [] (tX1_bytesOf l w hfl F d e_h3) rfl dX9_readContent_102 mw_X1_bytesOf (Or.inr ⟨_, q962⟩) q963 (by omega) (by omega) (Nat.le_of_ble_eq_true rfl) ?_
        refine nd_iload_n (j := 2) dX9_readContent_105 rfl rfl ?_
        refine nd_icmp_eq (tgt := 111) dX9_readContent_106 (by decide) (fun c5 => ?_) (fun c5 => ?_)
        · replace hf := ifp c5 hf
          exact nd_loc [0, 1, 3] rfl (tX9_readContent_111 l w hfl F d r _ _ _ k_this k_x1 _ hf)
        · replace hf := ifn c5 hf
          refine nd_null dX9_readContent_109 ?_
          cases hf
          exact nd_aret (fun b e => by cases e) dX9_readContent_110
      · replace hf := ifp c2 hf
        refine nd_iload_n (j := 3) dX9_readContent_88 rfl rfl ?_
        refine nd_if_ne (tgt := 96) dX9_readContent_89 (by decide) (fun c6 => ?_) (fun c6 => ?_)
        · replace hf := ifn c6 hf
          refine nd_iconst (v := 1) dX9_readContent_96 (by decide) ?_
          exact nd_loc [0, 1] rfl (tX9_readContent_97 l w hfl F d r _ _ _ k_this k_x1 _ hf)
        · replace hf := ifp c6 hf
          refine nd_iconst (v := 0) dX9_readContent_92 (by decide) ?_
          refine nd_goto (tgt := 97) dX9_readContent_93 (by decide) ?_
          exact nd_loc [0, 1] rfl (tX9_readContent_97 l w hfl F d r _ _ _ k_this k_x1 _ hf)
    · replace hf := ifn c1 hf
      refine nd_iload_n (j := 3) dX9_readContent_64 rfl rfl ?_
      refine nd_bipush (v := 8) dX9_readContent_65 (by decide) ?_
      refine nd_ishl dX9_readContent_67 ?_
      refine nd_aload_n (j := 1) dX9_readContent_68 rfl rfl ?_
      replace hf := caE hf
      obtain ⟨v8, h7, e_h7, hf⟩ := hf
      refine nd_Vi [vi (x3 <<< (8 &&& 31))] (tX4_next l w hfl F d k_x1 e_h7) rfl dX9_readContent_69 mw_X4_next (Or.inl q1068) k_x1 rfl q1054 q1055 (by omega) (by omega) (Nat.le_of_ble_eq_true rfl) ?_
      refine nd_ior dX9_readContent_72 ?_
      replace hf := bnE hf
      obtain ⟨v9, e_v9, hf⟩ := hf
      refine nd_top e_v9 ?_
      refine nd_istore_n [(3, vi v9), (0, vr (some this)), (1, vr (some x1)), (2, vi x2), (4, vi x4)] dX9_readContent_73 rfl (Nat.le_of_ble_eq_true rfl) rfl ?_
      replace hf := bnE hf
      obtain ⟨v10, e_v10, hf⟩ := hf
      refine nd_iinc (v := v10) (j := 4) [(4, vi v10), (3, vi v9), (0, vr (some this)), (1, vr (some x1)), (2, vi x2)] dX9_readContent_74 rfl (by rw [e_v10]; rfl) (Nat.le_of_ble_eq_true rfl) rfl ?_
      refine nd_goto (tgt := 58) dX9_readContent_77 (by decide) ?_
      exact nd_loc [2, 3, 4, 1, 0] rfl (ih _ _ _ _ _ k_this k_x1 _ hf)
set_option maxHeartbeats 4000000 in
theorem tX9_readContent_41 (l : Launch) (w : Wd) (hfl : l.stackTraces = false) (F d : Nat) (r : Option Nat × Hp) (this : Nat) (x1 : Nat) (x2 : Int32) (s0 : Int32) (s1 : Int32) (s2 : Int32) (k_this : nd_Kd this = 6) (k_x1 : nd_Kd x1 = 3) (h : Hp) (hf : fX9_readContent_41 F d this x1 x2 s0 s1 s2 h = some r) : nd_V l w yX9_readContent cX9_readContent 5 (some (.object "NotationDesk$Part")) 4 105 (.inl (some (vr r.1)), r.2) h 41 [(0, vr (some this)), (1, vr (some x1)), (2, vi x2)] [vi s2, vi s1, vi s0] := by
  unfold fX9_readContent_41 at hf
  replace hf := caE hf
  obtain ⟨v2, h1, e_h1, hf⟩ := hf
  refine nd_Si [] (tX1_outside l w hfl F d e_h1) rfl dX9_readContent_41 mw_X1_outside (Or.inr ⟨_, q515⟩) q516 (by omega) (by omega) (Nat.le_of_ble_eq_true rfl) ?_
  refine nd_if_eq (tgt := 49) dX9_readContent_44 (by decide) (fun c3 => ?_) (fun c3 => ?_)
  · replace hf := ifp c3 hf
    refine nd_aload_n (j := 1) dX9_readContent_49 rfl rfl ?_
    replace hf := caE hf
    obtain ⟨v5, h4, e_h4, hf⟩ := hf
    refine nd_Vi [] (tX4_next l w hfl F d k_x1 e_h4) rfl dX9_readContent_50 mw_X4_next (Or.inl q1068) k_x1 rfl q1054 q1055 (by omega) (by omega) (Nat.le_of_ble_eq_true rfl) ?_
    refine nd_i2b dX9_readContent_53 ?_
    replace hf := bnE hf
    obtain ⟨v6, e_v6, hf⟩ := hf
    refine nd_top e_v6 ?_
    refine nd_istore_n [(3, vi v6), (0, vr (some this)), (1, vr (some x1)), (2, vi x2)] dX9_readContent_54 rfl (Nat.le_of_ble_eq_true rfl) rfl ?_
    refine nd_iconst (v := 1) dX9_readContent_55 (by decide) ?_
    refine nd_istore [(4, vi 1), (3, vi v6), (0, vr (some this)), (1, vr (some x1)), (2, vi x2)] dX9_readContent_56 (Nat.le_of_ble_eq_true rfl) rfl ?_
    exact nd_loc [2, 3, 4, 1, 0] rfl (tX9_readContent_58 l w hfl F d r F _ _ _ _ _ k_this k_x1 _ hf)
  · replace hf := ifn c3 hf
    refine nd_null dX9_readContent_47 ?_
    cases hf
    exact nd_aret (fun b e => by cases e) dX9_readContent_48
set_option maxHeartbeats 4000000 in
theorem tX9_readContent (l : Launch) (w : Wd) (hfl : l.stackTraces = false) (F d : Nat) {this : Nat} {p0 : Nat} {p1 : Int32} (k_this : nd_Kd this = 6) (k_p0 : nd_Kd p0 = 3) {h : Hp} {r : Option Nat × Hp} (hf : fX9_readContent F d this p0 p1 h = some r) : nd_C l w yX9_readContent cX9_readContent 5 (some (.object "NotationDesk$Part")) 4 105 [vr (some this), vr (some p0), vi p1] h (.inl (some (vr r.1)), r.2) := by
  refine nd_start (as := [vr (some this), vr (some p0), vi p1]) hfl (by decide) (Nat.le_of_ble_eq_true rfl) ?_
  unfold fX9_readContent at hf
  refine nd_eqL (L' := [(0, vr (some this)), (1, vr (some p0)), (2, vi p1)]) rfl ?_
  refine nd_aload_n (j := 0) dX9_readContent_0 rfl rfl ?_
  refine nd_getI (k := 1) dX9_readContent_1 k_this rfl (Nat.le_of_ble_eq_true rfl) (nd_flO q424) rfl ?_
  refine nd_iconst (v := 5) dX9_readContent_4 (by decide) ?_
  refine nd_icmp_ne (tgt := 26) dX9_readContent_5 (by decide) (fun c1 => ?_) (fun c1 => ?_)
  · replace hf := ifn c1 hf
    refine nd_iload_n (j := 2) dX9_readContent_26 rfl rfl ?_
    refine nd_iconst (v := 1) dX9_readContent_27 (by decide) ?_
    refine nd_aload_n (j := 0) dX9_readContent_28 rfl rfl ?_
    refine nd_getI (k := 1) dX9_readContent_29 k_this rfl (Nat.le_of_ble_eq_true rfl) (nd_flO q424) rfl ?_
    refine nd_iconst (v := 1) dX9_readContent_32 (by decide) ?_
    refine nd_icmp_ne (tgt := 40) dX9_readContent_33 (by decide) (fun c2 => ?_) (fun c2 => ?_)
    · replace hf := ifn c2 hf
      refine nd_iconst (v := 4) dX9_readContent_40 (by decide) ?_
      exact nd_loc [0, 1, 2] rfl (tX9_readContent_41 l w hfl F d r _ _ _ _ _ _ k_this k_p0 _ hf)
    · replace hf := ifp c2 hf
      refine nd_iconst (v := 1) dX9_readContent_36 (by decide) ?_
      refine nd_goto (tgt := 41) dX9_readContent_37 (by decide) ?_
      exact nd_loc [0, 1, 2] rfl (tX9_readContent_41 l w hfl F d r _ _ _ _ _ _ k_this k_p0 _ hf)
  · replace hf := ifp c1 hf
    refine nd_iload_n (j := 2) dX9_readContent_8 rfl rfl ?_
    refine nd_if_ne (tgt := 24) dX9_readContent_9 (by decide) (fun c3 => ?_) (fun c3 => ?_)
    · replace hf := ifn c3 hf
      refine nd_null dX9_readContent_24 ?_
      cases hf
      exact nd_aret (fun b e => by cases e) dX9_readContent_25
    · replace hf := ifp c3 hf
      refine nd_aload_n (j := 0) dX9_readContent_12 rfl rfl ?_
      refine nd_aload_n (j := 1) dX9_readContent_13 rfl rfl ?_
      refine nd_getP (k := 4) dX9_readContent_14 k_p0 rfl (Nat.le_of_ble_eq_true rfl) (nd_flN q241) rfl (fun ok4 => ?_)
      replace hf := nnE hf
      obtain ⟨a5, e_a5, hf⟩ := hf
      refine nd_topr e_a5.symm ?_
      have k_a5 : nd_Kd a5 = 2 := nd_c1 (ok4 a5 e_a5)
      refine nd_iconst (v := 0) dX9_readContent_17 (by decide) ?_
      replace hf := caE hf
      obtain ⟨v7, h6, e_h6, hf⟩ := hf
      refine nd_Vr [] (tX9_given l w hfl F d k_this k_a5 e_h6) rfl dX9_readContent_18 mw_X9_given (Or.inl q956) k_this rfl q957 q958 (by omega) (by omega) (Nat.le_of_ble_eq_true rfl) (fun ok8 => ?_)
      have ok_v7 : ∀ b, v7 = some b → [13].contains (nd_Kd b) = true := fun b q => okT13 (ok8 b q)
      refine nd_goto (tgt := 25) dX9_readContent_21 (by decide) ?_
      cases hf
      exact nd_aret (fun b e => okT13' (ok_v7 b e)) dX9_readContent_25
def fX9_unpack_80 (F d : Nat) : Nat → Nat → Nat → Int32 → Int32 → Int32 → Hp → Option (Option Nat × Hp)
  | 0, _, _, _, _, _, _ => none
  | n + 1, this, x1, x2, x3, x4, h =>
    if x2 ≤ x4 then
    (ca (fX4_isThere F d x1 h) fun v3 h2 => (
    if v3 = 0 then
    (some (none, h2))
    else
    (ca (fX1_bytesOf F d x3 h2) fun v6 h5 => (
    if v6 = x2 then
    (nn (gP h5 404 x1) fun a9 => (
    ca (fX9_given F d this a9 x3 h5) fun v11 h10 => (
    some (v11, h10))))
    else
    (some (none, h5))))))
    else
    (ca (fX4_take F d x1 8 h) fun v14 h13 => (
    bn ((x3 <<< (8 &&& 31)) ||| v14) fun v15 => (
    bn (x4 + 1) fun v16 => (
    fX9_unpack_80 F d n this x1 x2 v15 v16 h13))))
def fX9_unpack (F d : Nat) (this : Nat) (p0 : Nat) (h : Hp) : Option (Option Nat × Hp) :=
  if (gI h 901 this) = 0 then
  (ca (fX4_takeNumber F d p0 0 255 h) fun v3 h2 => (
  ca (fX1_outside F d v3 1 4 h2) fun v5 h4 => (
  if v5 = 0 then
  (ca (fX4_take F d p0 8 h4) fun v8 h7 => (
  bn (Int8.toInt32 (Int32.toInt8 v8)) fun v9 => (
  fX9_unpack_80 F d F this p0 v3 v9 1 h7)))
  else
  (some (none, h4)))))
  else
  (ca (fX4_takeNumber F d p0 (gI h 902 this) (gI h 903 this) h) fun v11 h10 => (
  ca (fX4_isThere F d p0 h10) fun v13 h12 => (
  if v13 = 0 then
  (some (none, h12))
  else
  (ca (fX9_isRight F d this v11 h12) fun v16 h15 => (
  if v16 = 0 then
  (some (none, h15))
  else
  (nn (gP h15 404 p0) fun a19 => (
  ca (fX9_given F d this a19 v11 h15) fun v21 h20 => (
  some (v21, h20)))))))))
set_option maxHeartbeats 4000000 in
theorem tX9_unpack_80 (l : Launch) (w : Wd) (hfl : l.stackTraces = false) (F d : Nat) (r : Option Nat × Hp) : ∀ (n : Nat) (this : Nat) (x1 : Nat) (x2 : Int32) (x3 : Int32) (x4 : Int32) (k_this : nd_Kd this = 6) (k_x1 : nd_Kd x1 = 3) (h : Hp), fX9_unpack_80 F d n this x1 x2 x3 x4 h = some r → nd_V l w yX9_unpack cX9_unpack 5 (some (.object "NotationDesk$Part")) 4 105 (.inl (some (vr r.1)), r.2) h 80 [(0, vr (some this)), (1, vr (some x1)), (2, vi x2), (3, vi x3), (4, vi x4)] [] := by
  intro n
  induction n with
  | zero => intro _ _ _ _ _ _ _ _ hf; cases hf
  | succ n ih =>
    intro this x1 x2 x3 x4 k_this k_x1 h hf
    unfold fX9_unpack_80 at hf
    refine nd_iload (j := 4) dX9_unpack_80 rfl ?_
    refine nd_iload_n (j := 2) dX9_unpack_82 rfl rfl ?_
    refine nd_icmp_ge (tgt := 104) dX9_unpack_83 (by decide) (fun c1 => ?_) (fun c1 => ?_)
    · replace hf := ifp c1 hf
      refine nd_aload_n (j := 1) dX9_unpack_104 rfl rfl ?_
      replace hf := caE hf
      obtain ⟨v3, h2, e_h2, hf⟩ := hf
      refine nd_Vi [] (tX4_isThere l w hfl F d k_x1 e_h2) rfl dX9_unpack_105 mw_X4_isThere (Or.inl q955) k_x1 rfl q886 q887 (by omega) (by omega) (Nat.le_of_ble_eq_true rfl) ?_
      refine nd_if_eq (tgt := 131) dX9_unpack_108 (by decide) (fun c4 => ?_) (fun c4 => ?_)
      · replace hf := ifp c4 hf
        refine nd_null dX9_unpack_131 ?_
        cases hf
        exact nd_aret (fun b e => by cases e) dX9_unpack_132
      · replace hf := ifn c4 hf
        refine nd_iload_n (j := 3) dX9_unpack_111 rfl rfl ?_
        replace hf := caE hf
        obtain ⟨v6, h5, e_h5, hf⟩ := hf
        refine nd_Si [] (tX1_bytesOf l w hfl F d e_h5) rfl dX9_unpack_112 mw_X1_bytesOf (Or.inr ⟨_, q962⟩) q963 (by omega) (by omega) (Nat.le_of_ble_eq_true rfl) ?_
        refine nd_iload_n (j := 2) dX9_unpack_115 rfl rfl ?_
        refine nd_icmp_ne (tgt := 131) dX9_unpack_116 (by decide) (fun c7 => ?_) (fun c7 => ?_)
        · replace hf := ifn c7 hf
          refine nd_null dX9_unpack_131 ?_
          cases hf
          exact nd_aret (fun b e => by cases e) dX9_unpack_132
        · replace hf := ifp c7 hf
          refine nd_aload_n (j := 0) dX9_unpack_119 rfl rfl ?_
          refine nd_aload_n (j := 1) dX9_unpack_120 rfl rfl ?_
          refine nd_getP (k := 4) dX9_unpack_121 k_x1 rfl (Nat.le_of_ble_eq_true rfl) (nd_flN q241) rfl (fun ok8 => ?_)
          replace hf := nnE hf
          obtain ⟨a9, e_a9, hf⟩ := hf
          refine nd_topr e_a9.symm ?_
          have k_a9 : nd_Kd a9 = 2 := nd_c1 (ok8 a9 e_a9)
          refine nd_iload_n (j := 3) dX9_unpack_124 rfl rfl ?_
          replace hf := caE hf
          obtain ⟨v11, h10, e_h10, hf⟩ := hf
          refine nd_Vr [] (tX9_given l w hfl F d k_this k_a9 e_h10) rfl dX9_unpack_125 mw_X9_given (Or.inl q956) k_this rfl q957 q958 (by omega) (by omega) (Nat.le_of_ble_eq_true rfl) (fun ok12 => ?_)
          have ok_v11 : ∀ b, v11 = some b → [13].contains (nd_Kd b) = true := fun b q => okT13 (ok12 b q)
          refine nd_goto (tgt := 132) dX9_unpack_128 (by decide) ?_
          cases hf
          exact nd_aret (fun b e => okT13' (ok_v11 b e)) dX9_unpack_132
    · replace hf := ifn c1 hf
      refine nd_iload_n (j := 3) dX9_unpack_86 rfl rfl ?_
      refine nd_bipush (v := 8) dX9_unpack_87 (by decide) ?_
      refine nd_ishl dX9_unpack_89 ?_
      refine nd_aload_n (j := 1) dX9_unpack_90 rfl rfl ?_
      refine nd_bipush (v := 8) dX9_unpack_91 (by decide) ?_
      replace hf := caE hf
      obtain ⟨v14, h13, e_h13, hf⟩ := hf
      refine nd_Vi [vi (x3 <<< (8 &&& 31))] (tX4_take l w hfl F d k_x1 e_h13) rfl dX9_unpack_93 mw_X4_take (Or.inl q961) k_x1 rfl q879 q880 (by omega) (by omega) (Nat.le_of_ble_eq_true rfl) ?_
      refine nd_ior dX9_unpack_96 ?_
      replace hf := bnE hf
      obtain ⟨v15, e_v15, hf⟩ := hf
      refine nd_top e_v15 ?_
      refine nd_istore_n [(3, vi v15), (0, vr (some this)), (1, vr (some x1)), (2, vi x2), (4, vi x4)] dX9_unpack_97 rfl (Nat.le_of_ble_eq_true rfl) rfl ?_
      replace hf := bnE hf
      obtain ⟨v16, e_v16, hf⟩ := hf
      refine nd_iinc (v := v16) (j := 4) [(4, vi v16), (3, vi v15), (0, vr (some this)), (1, vr (some x1)), (2, vi x2)] dX9_unpack_98 rfl (by rw [e_v16]; rfl) (Nat.le_of_ble_eq_true rfl) rfl ?_
      refine nd_goto (tgt := 80) dX9_unpack_101 (by decide) ?_
      exact nd_loc [2, 3, 4, 1, 0] rfl (ih _ _ _ _ _ k_this k_x1 _ hf)
set_option maxHeartbeats 4000000 in
theorem tX9_unpack (l : Launch) (w : Wd) (hfl : l.stackTraces = false) (F d : Nat) {this : Nat} {p0 : Nat} (k_this : nd_Kd this = 6) (k_p0 : nd_Kd p0 = 3) {h : Hp} {r : Option Nat × Hp} (hf : fX9_unpack F d this p0 h = some r) : nd_C l w yX9_unpack cX9_unpack 5 (some (.object "NotationDesk$Part")) 4 105 [vr (some this), vr (some p0)] h (.inl (some (vr r.1)), r.2) := by
  refine nd_start (as := [vr (some this), vr (some p0)]) hfl (by decide) (Nat.le_of_ble_eq_true rfl) ?_
  unfold fX9_unpack at hf
  refine nd_eqL (L' := [(0, vr (some this)), (1, vr (some p0))]) rfl ?_
  refine nd_aload_n (j := 0) dX9_unpack_0 rfl rfl ?_
  refine nd_getI (k := 2) dX9_unpack_1 k_this rfl (Nat.le_of_ble_eq_true rfl) (nd_flO q425) rfl ?_
  refine nd_if_eq (tgt := 49) dX9_unpack_4 (by decide) (fun c1 => ?_) (fun c1 => ?_)
  · replace hf := ifp c1 hf
    refine nd_aload_n (j := 1) dX9_unpack_49 rfl rfl ?_
    refine nd_iconst (v := 0) dX9_unpack_50 (by decide) ?_
    refine nd_sipush (v := 255) dX9_unpack_51 (by decide) ?_
    replace hf := caE hf
    obtain ⟨v3, h2, e_h2, hf⟩ := hf
    refine nd_Vi [] (tX4_takeNumber l w hfl F d k_p0 e_h2) rfl dX9_unpack_54 mw_X4_takeNumber (Or.inl q954) k_p0 rfl q871 q872 (by omega) (by omega) (Nat.le_of_ble_eq_true rfl) ?_
    refine nd_istore_n [(2, vi v3), (0, vr (some this)), (1, vr (some p0))] dX9_unpack_57 rfl (Nat.le_of_ble_eq_true rfl) rfl ?_
    refine nd_iload_n (j := 0) dX9_unpack_58 rfl rfl ?_
    refine nd_iconst (v := 1) dX9_unpack_59 (by decide) ?_
    refine nd_iconst (v := 4) dX9_unpack_60 (by decide) ?_
    replace hf := caE hf
    obtain ⟨v5, h4, e_h4, hf⟩ := hf
    refine nd_Si [] (tX1_outside l w hfl F d e_h4) rfl dX9_unpack_61 mw_X1_outside (Or.inr ⟨_, q515⟩) q516 (by omega) (by omega) (Nat.le_of_ble_eq_true rfl) ?_
    refine nd_if_eq (tgt := 69) dX9_unpack_64 (by decide) (fun c6 => ?_) (fun c6 => ?_)
    · replace hf := ifp c6 hf
      refine nd_aload_n (j := 2) dX9_unpack_69 rfl rfl ?_
      refine nd_bipush (v := 8) dX9_unpack_70 (by decide) ?_
      replace hf := caE hf
      obtain ⟨v8, h7, e_h7, hf⟩ := hf
      refine nd_Vi [] (tX4_take l w hfl F d k_p0 e_h7) rfl dX9_unpack_72 mw_X4_take (Or.inl q961) k_p0 rfl q879 q880 (by omega) (by omega) (Nat.le_of_ble_eq_true rfl) ?_
      refine nd_i2b dX9_unpack_75 ?_
      replace hf := bnE hf
      obtain ⟨v9, e_v9, hf⟩ := hf
      refine nd_top e_v9 ?_
      refine nd_istore_n [(3, vi v9), (2, vi v3), (0, vr (some this)), (1, vr (some p0))] dX9_unpack_76 rfl (Nat.le_of_ble_eq_true rfl) rfl ?_
      refine nd_iconst (v := 1) dX9_unpack_77 (by decide) ?_
      refine nd_istore [(4, vi 1), (3, vi v9), (2, vi v3), (0, vr (some this)), (1, vr (some p0))] dX9_unpack_78 (Nat.le_of_ble_eq_true rfl) rfl ?_
      exact nd_loc [3, 4, 2, 1, 0] rfl (tX9_unpack_80 l w hfl F d r F _ _ _ _ _ k_this k_p0 _ hf)
    · replace hf := ifn c6 hf
      refine nd_null dX9_unpack_67 ?_
      cases hf
      exact nd_aret (fun b e => by cases e) dX9_unpack_68
  · replace hf := ifn c1 hf
    refine nd_aload_n (j := 1) dX9_unpack_7 rfl rfl ?_
    refine nd_aload_n (j := 0) dX9_unpack_8 rfl rfl ?_
    refine nd_getI (k := 3) dX9_unpack_9 k_this rfl (Nat.le_of_ble_eq_true rfl) (nd_flO q426) rfl ?_
    refine nd_aload_n (j := 0) dX9_unpack_12 rfl rfl ?_
    refine nd_getI (k := 4) dX9_unpack_13 k_this rfl (Nat.le_of_ble_eq_true rfl) (nd_flO q427) rfl ?_
    replace hf := caE hf
    obtain ⟨v11, h10, e_h10, hf⟩ := hf
    refine nd_Vi [] (tX4_takeNumber l w hfl F d k_p0 e_h10) rfl dX9_unpack_16 mw_X4_takeNumber (Or.inl q954) k_p0 rfl q871 q872 (by omega) (by omega) (Nat.le_of_ble_eq_true rfl) ?_
    refine nd_istore_n [(2, vi v11), (0, vr (some this)), (1, vr (some p0))] dX9_unpack_19 rfl (Nat.le_of_ble_eq_true rfl) rfl ?_
    refine nd_aload_n (j := 2) dX9_unpack_20 rfl rfl ?_
    replace hf := caE hf
    obtain ⟨v13, h12, e_h12, hf⟩ := hf
    refine nd_Vi [] (tX4_isThere l w hfl F d k_p0 e_h12) rfl dX9_unpack_21 mw_X4_isThere (Or.inl q955) k_p0 rfl q886 q887 (by omega) (by omega) (Nat.le_of_ble_eq_true rfl) ?_
    refine nd_if_eq (tgt := 47) dX9_unpack_24 (by decide) (fun c14 => ?_) (fun c14 => ?_)
    · replace hf := ifp c14 hf
      refine nd_null dX9_unpack_47 ?_
      cases hf
      exact nd_aret (fun b e => by cases e) dX9_unpack_48
    · replace hf := ifn c14 hf
      refine nd_aload_n (j := 1) dX9_unpack_27 rfl rfl ?_
      refine nd_iload_n (j := 0) dX9_unpack_28 rfl rfl ?_
      replace hf := caE hf
      obtain ⟨v16, h15, e_h15, hf⟩ := hf
      refine nd_Vi [] (tX9_isRight l w hfl F d k_this e_h15) rfl dX9_unpack_29 mw_X9_isRight (Or.inl q511) k_this rfl q513 qs13 (by omega) (by omega) (Nat.le_of_ble_eq_true rfl) ?_
      refine nd_if_eq (tgt := 47) dX9_unpack_32 (by decide) (fun c17 => ?_) (fun c17 => ?_)
      · replace hf := ifp c17 hf
        refine nd_null dX9_unpack_47 ?_
        cases hf
        exact nd_aret (fun b e => by cases e) dX9_unpack_48
      · replace hf := ifn c17 hf
        refine nd_aload_n (j := 1) dX9_unpack_35 rfl rfl ?_
        refine nd_aload_n (j := 2) dX9_unpack_36 rfl rfl ?_
        refine nd_getP (k := 4) dX9_unpack_37 k_p0 rfl (Nat.le_of_ble_eq_true rfl) (nd_flN q241) rfl (fun ok18 => ?_)
        replace hf := nnE hf
        obtain ⟨a19, e_a19, hf⟩ := hf
        refine nd_topr e_a19.symm ?_
        have k_a19 : nd_Kd a19 = 2 := nd_c1 (ok18 a19 e_a19)
        refine nd_iload_n (j := 0) dX9_unpack_40 rfl rfl ?_
        replace hf := caE hf
        obtain ⟨v21, h20, e_h20, hf⟩ := hf
        refine nd_Vr [] (tX9_given l w hfl F d k_this k_a19 e_h20) rfl dX9_unpack_41 mw_X9_given (Or.inl q956) k_this rfl q957 q958 (by omega) (by omega) (Nat.le_of_ble_eq_true rfl) (fun ok22 => ?_)
        have ok_v21 : ∀ b, v21 = some b → [13].contains (nd_Kd b) = true := fun b q => okT13 (ok22 b q)
        refine nd_goto (tgt := 48) dX9_unpack_44 (by decide) ?_
        cases hf
        exact nd_aret (fun b e => okT13' (ok_v21 b e)) dX9_unpack_48
def fX9_writeContent (F d : Nat) (this : Nat) (p0 : Nat) (p1 : Nat) (h : Hp) : Option (Hp) :=
  if (gI h 900 this) = 1 then
  (cv (fX5_add F d p1 (255 * (gI h 1701 p0)) h) fun h5 => (
  some h5))
  else
  (if (gI h 900 this) = 5 then
  (some h)
  else
  (cv (fX5_putInt F d p1 (gI h 1701 p0) h) fun h3 => (
  some h3)))
set_option maxHeartbeats 4000000 in
theorem tX9_writeContent (l : Launch) (w : Wd) (hfl : l.stackTraces = false) (F d : Nat) {this : Nat} {p0 : Nat} {p1 : Nat} (k_this : nd_Kd this = 6) (k_p0 : nd_Kd p0 = 13) (k_p1 : nd_Kd p1 = 4) {h : Hp} {r : Hp} (hf : fX9_writeContent F d this p0 p1 h = some r) : nd_C l w yX9_writeContent cX9_writeContent 3 none 3 67 [vr (some this), vr (some p0), vr (some p1)] h (.inl none, r) := by
  refine nd_start (as := [vr (some this), vr (some p0), vr (some p1)]) hfl (by decide) (Nat.le_of_ble_eq_true rfl) ?_
  unfold fX9_writeContent at hf
  refine nd_eqL (L' := [(0, vr (some this)), (1, vr (some p0)), (2, vr (some p1))]) rfl ?_
  refine nd_aload_n (j := 0) dX9_writeContent_0 rfl rfl ?_
  refine nd_getI (k := 1) dX9_writeContent_1 k_this rfl (Nat.le_of_ble_eq_true rfl) (nd_flO q424) rfl ?_
  refine nd_iconst (v := 1) dX9_writeContent_4 (by decide) ?_
  refine nd_icmp_ne (tgt := 23) dX9_writeContent_5 (by decide) (fun c1 => ?_) (fun c1 => ?_)
  · replace hf := ifn c1 hf
    refine nd_aload_n (j := 0) dX9_writeContent_23 rfl rfl ?_
    refine nd_getI (k := 1) dX9_writeContent_24 k_this rfl (Nat.le_of_ble_eq_true rfl) (nd_flO q424) rfl ?_
    refine nd_iconst (v := 5) dX9_writeContent_27 (by decide) ?_
    refine nd_icmp_eq (tgt := 39) dX9_writeContent_28 (by decide) (fun c2 => ?_) (fun c2 => ?_)
    · replace hf := ifp c2 hf
      cases hf
      exact nd_vret dX9_writeContent_39
    · replace hf := ifn c2 hf
      refine nd_aload_n (j := 2) dX9_writeContent_31 rfl rfl ?_
      refine nd_aload_n (j := 1) dX9_writeContent_32 rfl rfl ?_
      refine nd_getI (k := 1) dX9_writeContent_33 k_p0 rfl (Nat.le_of_ble_eq_true rfl) (nd_flN q911) rfl ?_
      replace hf := cvE hf
      obtain ⟨h3, e_h3, hf⟩ := hf
      refine nd_Vv [] (tX5_putInt l w hfl F d k_p1 e_h3) rfl dX9_writeContent_36 mw_X5_putInt (Or.inl q1150) k_p1 rfl q1151 q1152 (by omega) (by omega) (Nat.le_of_ble_eq_true rfl) ?_
      cases hf
      exact nd_vret dX9_writeContent_39
  · replace hf := ifp c1 hf
    refine nd_aload_n (j := 2) dX9_writeContent_8 rfl rfl ?_
    refine nd_sipush (v := 255) dX9_writeContent_9 (by decide) ?_
    refine nd_aload_n (j := 1) dX9_writeContent_12 rfl rfl ?_
    refine nd_getI (k := 1) dX9_writeContent_13 k_p0 rfl (Nat.le_of_ble_eq_true rfl) (nd_flN q911) rfl ?_
    refine nd_imul dX9_writeContent_16 ?_
    replace hf := cvE hf
    obtain ⟨h5, e_h5, hf⟩ := hf
    refine nd_Vv [] (tX5_add l w hfl F d k_p1 e_h5) rfl dX9_writeContent_17 mw_X5_add (Or.inl q1149) k_p1 rfl q1136 q1137 (by omega) (by omega) (Nat.le_of_ble_eq_true rfl) ?_
    refine nd_goto (tgt := 39) dX9_writeContent_20 (by decide) ?_
    cases hf
    exact nd_vret dX9_writeContent_39
def fX13_add (F d : Nat) (p0 : Nat) (p1 : Nat) (p2 : Int32) (h : Hp) : Option (Hp) :=
  nn (gP h 302 p1) fun a2 => (
  bn (gI h 304 p1) fun v3 => (
  bn (sI h 304 p1 (v3 + 1)) fun h4 => (
  ck (inb v3 (nd_Ln a2)) (
  bn (sA h4 a2 (Int32.toNatClampNeg v3) p2) fun h6 => (
  bn (sI h6 1701 p0 ((gI h6 1701 p0) + 1)) fun h7 => (
  some h7))))))
set_option maxHeartbeats 4000000 in
theorem tX13_add (l : Launch) (w : Wd) (hfl : l.stackTraces = false) (F d : Nat) {p0 : Nat} {p1 : Nat} {p2 : Int32} (k_p0 : nd_Kd p0 = 13) (k_p1 : nd_Kd p1 = 2) {h : Hp} {r : Hp} (hf : fX13_add F d p0 p1 p2 h = some r) : nd_C l w yX13_add cX13_add 3 none 0 0 [vr (some p0), vr (some p1), vi p2] h (.inl none, r) := by
  refine nd_start (as := [vr (some p0), vr (some p1), vi p2]) hfl (by decide) (Nat.le_of_ble_eq_true rfl) ?_
  unfold fX13_add at hf
  refine nd_eqL (L' := [(0, vr (some p0)), (1, vr (some p1)), (2, vi p2)]) rfl ?_
  refine nd_aload_n (j := 1) dX13_add_0 rfl rfl ?_
  refine nd_getP (k := 2) dX13_add_1 k_p1 rfl (Nat.le_of_ble_eq_true rfl) (nd_flN q205) rfl (fun ok1 => ?_)
  replace hf := nnE hf
  obtain ⟨a2, e_a2, hf⟩ := hf
  refine nd_topr e_a2.symm ?_
  have k_a2 : nd_Kd a2 = 20 := nd_c1 (ok1 a2 e_a2)
  refine nd_aload_n (j := 1) dX13_add_4 rfl rfl ?_
  refine nd_dup dX13_add_5 rfl ?_
  refine nd_getI (k := 4) dX13_add_6 k_p1 rfl (Nat.le_of_ble_eq_true rfl) (nd_flN q208) rfl ?_
  replace hf := bnE hf
  obtain ⟨v3, e_v3, hf⟩ := hf
  refine nd_top e_v3 ?_
  refine nd_dup_x1 dX13_add_9 rfl rfl ?_
  refine nd_iconst (v := 1) dX13_add_10 (by decide) ?_
  refine nd_iadd dX13_add_11 ?_
  refine nd_putN (k := 4) dX13_add_12 k_p1 rfl (Nat.le_of_ble_eq_true rfl) (nd_flN q208) rfl rfl rfl ?_
  replace hf := bnE hf
  obtain ⟨h4, e_h4, hf⟩ := hf
  refine nd_hp e_h4 ?_
  refine nd_iload_n (j := 2) dX13_add_15 rfl rfl ?_
  replace hf := ckE hf
  obtain ⟨c5, hf⟩ := hf
  refine nd_iast dX13_add_16 k_a2 c5 ?_
  replace hf := bnE hf
  obtain ⟨h6, e_h6, hf⟩ := hf
  refine nd_hp e_h6 ?_
  refine nd_aload_n (j := 0) dX13_add_17 rfl rfl ?_
  refine nd_dup dX13_add_18 rfl ?_
  refine nd_getI (k := 1) dX13_add_19 k_p0 rfl (Nat.le_of_ble_eq_true rfl) (nd_flN q907) rfl ?_
  refine nd_iconst (v := 1) dX13_add_22 (by decide) ?_
  refine nd_iadd dX13_add_23 ?_
  refine nd_putN (k := 1) dX13_add_24 k_p0 rfl (Nat.le_of_ble_eq_true rfl) (nd_flN q907) rfl rfl rfl ?_
  replace hf := bnE hf
  obtain ⟨h7, e_h7, hf⟩ := hf
  refine nd_hp e_h7 ?_
  cases hf
  exact nd_vret dX13_add_27
def fX13_content (F d : Nat) (this : Nat) (p0 : Nat) (h : Hp) : Option (Int32 × Hp) :=
  some ((gI h 1701 p0), h)
set_option maxHeartbeats 4000000 in
theorem tX13_content (l : Launch) (w : Wd) (hfl : l.stackTraces = false) (F d : Nat) {this : Nat} {p0 : Nat} (k_this : nd_Kd this = 9) (k_p0 : nd_Kd p0 = 13) {h : Hp} {r : Int32 × Hp} (hf : fX13_content F d this p0 h = some r) : nd_C l w yX13_content cX13_content 2 (some .int) 0 0 [vr (some this), vr (some p0)] h (.inl (some (vi r.1)), r.2) := by
  refine nd_start (as := [vr (some this), vr (some p0)]) hfl (by decide) (Nat.le_of_ble_eq_true rfl) ?_
  unfold fX13_content at hf
  refine nd_eqL (L' := [(0, vr (some this)), (1, vr (some p0))]) rfl ?_
  refine nd_aload_n (j := 1) dX13_content_0 rfl rfl ?_
  refine nd_getI (k := 1) dX13_content_1 k_p0 rfl (Nat.le_of_ble_eq_true rfl) (nd_flN q907) rfl ?_
  cases hf
  exact nd_iret (v := (gI h 1701 p0)) dX13_content_4
def fX13_writeContent_2 (F d : Nat) : Nat → Nat → Nat → Int32 → Hp → Option (Hp)
  | 0, _, _, _, _ => none
  | n + 1, x1, x2, x3, h =>
    if (gI h 1701 x1) ≤ x3 then
    (some h)
    else
    (nn (gP h 502 x2) fun a3 => (
    nn (gP h 302 a3) fun a5 => (
    ck (inb ((gI h 1702 x1) + x3) (nd_Ln a5)) (
    cv (fX5_add F d x2 (gA h a5 (Int32.toNatClampNeg ((gI h 1702 x1) + x3))) h) fun h7 => (
    bn (x3 + 1) fun v9 => (
    fX13_writeContent_2 F d n x1 x2 v9 h7))))))
def fX13_writeContent (F d : Nat) (this : Nat) (p0 : Nat) (p1 : Nat) (h : Hp) : Option (Hp) :=
  fX13_writeContent_2 F d F p0 p1 0 h
set_option maxHeartbeats 4000000 in
theorem tX13_writeContent_2 (l : Launch) (w : Wd) (hfl : l.stackTraces = false) (F d : Nat) (r : Hp) : ∀ (n : Nat) (x1 : Nat) (x2 : Nat) (x3 : Int32) (k_x1 : nd_Kd x1 = 13) (k_x2 : nd_Kd x2 = 4) (h : Hp), fX13_writeContent_2 F d n x1 x2 x3 h = some r → nd_V l w yX13_writeContent cX13_writeContent 4 none 2 44 (.inl none, r) h 2 [(1, vr (some x1)), (2, vr (some x2)), (3, vi x3)] [] := by
  intro n
  induction n with
  | zero => intro _ _ _ _ _ _ hf; cases hf
  | succ n ih =>
    intro x1 x2 x3 k_x1 k_x2 h hf
    unfold fX13_writeContent_2 at hf
    refine nd_iload_n (j := 2) dX13_writeContent_2 rfl rfl ?_
    refine nd_aload_n (j := 0) dX13_writeContent_3 rfl rfl ?_
    refine nd_getI (k := 1) dX13_writeContent_4 k_x1 rfl (Nat.le_of_ble_eq_true rfl) (nd_flN q907) rfl ?_
    refine nd_icmp_ge (tgt := 34) dX13_writeContent_7 (by decide) (fun c1 => ?_) (fun c1 => ?_)
    · replace hf := ifp c1 hf
      cases hf
      exact nd_vret dX13_writeContent_34
    · replace hf := ifn c1 hf
      refine nd_aload_n (j := 1) dX13_writeContent_10 rfl rfl ?_
      refine nd_aload_n (j := 1) dX13_writeContent_11 rfl rfl ?_
      refine nd_getP (k := 2) dX13_writeContent_12 k_x2 rfl (Nat.le_of_ble_eq_true rfl) (nd_flN q275) rfl (fun ok2 => ?_)
      replace hf := nnE hf
      obtain ⟨a3, e_a3, hf⟩ := hf
      refine nd_topr e_a3.symm ?_
      have k_a3 : nd_Kd a3 = 2 := nd_c1 (ok2 a3 e_a3)
      refine nd_getP (k := 2) dX13_writeContent_15 k_a3 rfl (Nat.le_of_ble_eq_true rfl) (nd_flN q205) rfl (fun ok4 => ?_)
      replace hf := nnE hf
      obtain ⟨a5, e_a5, hf⟩ := hf
      refine nd_topr e_a5.symm ?_
      have k_a5 : nd_Kd a5 = 20 := nd_c1 (ok4 a5 e_a5)
      refine nd_aload_n (j := 0) dX13_writeContent_18 rfl rfl ?_
      refine nd_getI (k := 2) dX13_writeContent_19 k_x1 rfl (Nat.le_of_ble_eq_true rfl) (nd_flN q915) rfl ?_
      refine nd_iload_n (j := 2) dX13_writeContent_22 rfl rfl ?_
      refine nd_iadd dX13_writeContent_23 ?_
      replace hf := ckE hf
      obtain ⟨c6, hf⟩ := hf
      refine nd_iald dX13_writeContent_24 k_a5 c6 ?_
      replace hf := cvE hf
      obtain ⟨h7, e_h7, hf⟩ := hf
      refine nd_Vv [] (tX5_add l w hfl F d k_x2 e_h7) rfl dX13_writeContent_25 mw_X5_add (Or.inl q1158) k_x2 rfl q1136 q1137 (by omega) (by omega) (Nat.le_of_ble_eq_true rfl) ?_
      replace hf := bnE hf
      obtain ⟨v9, e_v9, hf⟩ := hf
      refine nd_iinc (v := v9) (j := 2) [(3, vi v9), (1, vr (some x1)), (2, vr (some x2))] dX13_writeContent_28 rfl (by rw [e_v9]; rfl) (Nat.le_of_ble_eq_true rfl) rfl ?_
      refine nd_goto (tgt := 2) dX13_writeContent_31 (by decide) ?_
      exact nd_loc [1, 2, 0] rfl (ih _ _ _ k_x1 k_x2 _ hf)
set_option maxHeartbeats 4000000 in
theorem tX13_writeContent (l : Launch) (w : Wd) (hfl : l.stackTraces = false) (F d : Nat) {this : Nat} {p0 : Nat} {p1 : Nat} (k_this : nd_Kd this = 9) (k_p0 : nd_Kd p0 = 13) (k_p1 : nd_Kd p1 = 4) {h : Hp} {r : Hp} (hf : fX13_writeContent F d this p0 p1 h = some r) : nd_C l w yX13_writeContent cX13_writeContent 4 none 2 44 [vr (some this), vr (some p0), vr (some p1)] h (.inl none, r) := by
  refine nd_start (as := [vr (some this), vr (some p0), vr (some p1)]) hfl (by decide) (Nat.le_of_ble_eq_true rfl) ?_
  unfold fX13_writeContent at hf
  refine nd_eqL (L' := [(0, vr (some this)), (1, vr (some p0)), (2, vr (some p1))]) rfl ?_
  refine nd_iconst (v := 0) dX13_writeContent_0 (by decide) ?_
  refine nd_istore_n [(3, vi 0), (0, vr (some this)), (1, vr (some p0)), (2, vr (some p1))] dX13_writeContent_1 rfl (Nat.le_of_ble_eq_true rfl) rfl ?_
  exact nd_loc [2, 3, 0] rfl (tX13_writeContent_2 l w hfl F d r F _ _ _ k_p0 k_p1 _ hf)
def fX14_isShort (F d : Nat) (this : Nat) (h : Hp) : Option (Int32 × Hp) :=
  if (gI h 1400 this) = 0 then
  (some (0, h))
  else
  (if (gI h 1401 this) = (gI h 1402 this) then
  (if 2 < (gI h 1402 this) then
  (some (0, h))
  else
  (some (1, h)))
  else
  (some (0, h)))
set_option maxHeartbeats 4000000 in
theorem tX14_isShort (l : Launch) (w : Wd) (hfl : l.stackTraces = false) (F d : Nat) {this : Nat} (k_this : nd_Kd this = 10) {h : Hp} {r : Int32 × Hp} (hf : fX14_isShort F d this h = some r) : nd_C l w yX14_isShort cX14_isShort 1 (some .boolean) 0 0 [vr (some this)] h (.inl (some (vi r.1)), r.2) := by
  refine nd_start (as := [vr (some this)]) hfl (by decide) (Nat.le_of_ble_eq_true rfl) ?_
  unfold fX14_isShort at hf
  refine nd_eqL (L' := [(0, vr (some this))]) rfl ?_
  refine nd_aload_n (j := 0) dX14_isShort_0 rfl rfl ?_
  refine nd_getI (k := 0) dX14_isShort_1 k_this rfl (Nat.le_of_ble_eq_true rfl) (nd_flO q595) rfl ?_
  refine nd_if_eq (tgt := 30) dX14_isShort_4 (by decide) (fun c1 => ?_) (fun c1 => ?_)
  · replace hf := ifp c1 hf
    refine nd_iconst (v := 0) dX14_isShort_30 (by decide) ?_
    cases hf
    exact nd_zret (v := 0) (by decide) dX14_isShort_31
  · replace hf := ifn c1 hf
    refine nd_aload_n (j := 0) dX14_isShort_7 rfl rfl ?_
    refine nd_getI (k := 1) dX14_isShort_8 k_this rfl (Nat.le_of_ble_eq_true rfl) (nd_flO q596) rfl ?_
    refine nd_aload_n (j := 0) dX14_isShort_11 rfl rfl ?_
    refine nd_getI (k := 2) dX14_isShort_12 k_this rfl (Nat.le_of_ble_eq_true rfl) (nd_flO q597) rfl ?_
    refine nd_icmp_ne (tgt := 30) dX14_isShort_15 (by decide) (fun c2 => ?_) (fun c2 => ?_)
    · replace hf := ifn c2 hf
      refine nd_iconst (v := 0) dX14_isShort_30 (by decide) ?_
      cases hf
      exact nd_zret (v := 0) (by decide) dX14_isShort_31
    · replace hf := ifp c2 hf
      refine nd_aload_n (j := 0) dX14_isShort_18 rfl rfl ?_
      refine nd_getI (k := 2) dX14_isShort_19 k_this rfl (Nat.le_of_ble_eq_true rfl) (nd_flO q597) rfl ?_
      refine nd_iconst (v := 2) dX14_isShort_22 (by decide) ?_
      refine nd_icmp_gt (tgt := 30) dX14_isShort_23 (by decide) (fun c3 => ?_) (fun c3 => ?_)
      · replace hf := ifp c3 hf
        refine nd_iconst (v := 0) dX14_isShort_30 (by decide) ?_
        cases hf
        exact nd_zret (v := 0) (by decide) dX14_isShort_31
      · replace hf := ifn c3 hf
        refine nd_iconst (v := 1) dX14_isShort_26 (by decide) ?_
        refine nd_goto (tgt := 31) dX14_isShort_27 (by decide) ?_
        cases hf
        exact nd_zret (v := 1) (by decide) dX14_isShort_31
def fX14_pack_34 (F d : Nat) (s0 : Nat) (s1 : Int32) (s2 : Int32) (s3 : Int32) (h : Hp) : Option (Hp) :=
  cv (fX5_putNumber F d s0 s1 s2 s3 h) fun h1 => (
  some h1)
def fX14_pack_17 (F d : Nat) (this : Nat) (s0 : Nat) (s1 : Int32) (s2 : Int32) (h : Hp) : Option (Hp) :=
  if (gI h 1400 this) = 0 then
  (fX14_pack_34 F d s0 s1 s2 255 h)
  else
  (fX14_pack_34 F d s0 s1 s2 (gI h 1402 this) h)
def fX14_pack (F d : Nat) (this : Nat) (p0 : Int32) (p1 : Nat) (h : Hp) : Option (Hp) :=
  if (gI h 1400 this) = 0 then
  (fX14_pack_17 F d this p1 p0 0 h)
  else
  (fX14_pack_17 F d this p1 p0 (gI h 1401 this) h)
set_option maxHeartbeats 4000000 in
theorem tX14_pack_34 (l : Launch) (w : Wd) (hfl : l.stackTraces = false) (F d : Nat) (r : Hp) (s0 : Nat) (s1 : Int32) (s2 : Int32) (s3 : Int32) (k_s0 : nd_Kd s0 = 4) (h : Hp) (hf : fX14_pack_34 F d s0 s1 s2 s3 h = some r) : nd_V l w yX14_pack cX14_pack 3 none 3 64 (.inl none, r) h 34 [] [vi s3, vi s2, vi s1, vr (some s0)] := by
  unfold fX14_pack_34 at hf
  replace hf := cvE hf
  obtain ⟨h1, e_h1, hf⟩ := hf
  refine nd_Vv [] (tX5_putNumber l w hfl F d k_s0 e_h1) rfl dX14_pack_34 mw_X5_putNumber (Or.inl q1249) k_s0 rfl q1227 q1228 (by omega) (by omega) (Nat.le_of_ble_eq_true rfl) ?_
  cases hf
  exact nd_vret dX14_pack_37
set_option maxHeartbeats 4000000 in
theorem tX14_pack_17 (l : Launch) (w : Wd) (hfl : l.stackTraces = false) (F d : Nat) (r : Hp) (this : Nat) (s0 : Nat) (s1 : Int32) (s2 : Int32) (k_this : nd_Kd this = 10) (k_s0 : nd_Kd s0 = 4) (h : Hp) (hf : fX14_pack_17 F d this s0 s1 s2 h = some r) : nd_V l w yX14_pack cX14_pack 3 none 3 64 (.inl none, r) h 17 [(0, vr (some this))] [vi s2, vi s1, vr (some s0)] := by
  unfold fX14_pack_17 at hf
  refine nd_aload_n (j := 0) dX14_pack_17 rfl rfl ?_
  refine nd_getI (k := 0) dX14_pack_18 k_this rfl (Nat.le_of_ble_eq_true rfl) (nd_flO q595) rfl ?_
  refine nd_if_eq (tgt := 31) dX14_pack_21 (by decide) (fun c1 => ?_) (fun c1 => ?_)
  · replace hf := ifp c1 hf
    refine nd_sipush (v := 255) dX14_pack_31 (by decide) ?_
    exact nd_loc [] rfl (tX14_pack_34 l w hfl F d r _ _ _ _ k_s0 _ hf)
  · replace hf := ifn c1 hf
    refine nd_aload_n (j := 0) dX14_pack_24 rfl rfl ?_
    refine nd_getI (k := 2) dX14_pack_25 k_this rfl (Nat.le_of_ble_eq_true rfl) (nd_flO q597) rfl ?_
    refine nd_goto (tgt := 34) dX14_pack_28 (by decide) ?_
    exact nd_loc [] rfl (tX14_pack_34 l w hfl F d r _ _ _ _ k_s0 _ hf)
set_option maxHeartbeats 4000000 in
theorem tX14_pack (l : Launch) (w : Wd) (hfl : l.stackTraces = false) (F d : Nat) {this : Nat} {p0 : Int32} {p1 : Nat} (k_this : nd_Kd this = 10) (k_p1 : nd_Kd p1 = 4) {h : Hp} {r : Hp} (hf : fX14_pack F d this p0 p1 h = some r) : nd_C l w yX14_pack cX14_pack 3 none 3 64 [vr (some this), vi p0, vr (some p1)] h (.inl none, r) := by
  refine nd_start (as := [vr (some this), vi p0, vr (some p1)]) hfl (by decide) (Nat.le_of_ble_eq_true rfl) ?_
  unfold fX14_pack at hf
  refine nd_eqL (L' := [(0, vr (some this)), (1, vi p0), (2, vr (some p1))]) rfl ?_
  refine nd_aload_n (j := 2) dX14_pack_0 rfl rfl ?_
  refine nd_iload_n (j := 1) dX14_pack_1 rfl rfl ?_
  refine nd_aload_n (j := 0) dX14_pack_2 rfl rfl ?_
  refine nd_getI (k := 0) dX14_pack_3 k_this rfl (Nat.le_of_ble_eq_true rfl) (nd_flO q595) rfl ?_
  refine nd_if_eq (tgt := 16) dX14_pack_6 (by decide) (fun c1 => ?_) (fun c1 => ?_)
  · replace hf := ifp c1 hf
    refine nd_iconst (v := 0) dX14_pack_16 (by decide) ?_
    exact nd_loc [0] rfl (tX14_pack_17 l w hfl F d r _ _ _ _ k_this k_p1 _ hf)
  · replace hf := ifn c1 hf
    refine nd_aload_n (j := 0) dX14_pack_9 rfl rfl ?_
    refine nd_getI (k := 1) dX14_pack_10 k_this rfl (Nat.le_of_ble_eq_true rfl) (nd_flO q596) rfl ?_
    refine nd_goto (tgt := 17) dX14_pack_13 (by decide) ?_
    exact nd_loc [0] rfl (tX14_pack_17 l w hfl F d r _ _ _ _ k_this k_p1 _ hf)
def fX13_pack_33 (F d : Nat) (this : Nat) (x1 : Nat) (x2 : Nat) (h : Hp) : Option (Hp) :=
  cv (fX13_writeContent F d this x1 x2 h) fun h1 => (
  some h1)
def fX13_pack (F d : Nat) (this : Nat) (p0 : Nat) (p1 : Nat) (h : Hp) : Option (Hp) :=
  nn (gP h 1300 this) fun a2 => (
  cv (fX14_pack F d a2 (gI h 1701 p0) p1 h) fun h3 => (
  if (gI h3 1701 p0) ≤ 0 then
  (fX13_pack_33 F d this p0 p1 h3)
  else
  (nn (gP h3 1300 this) fun a7 => (
  ca (fX14_isShort F d a7 h3) fun v9 h8 => (
  if v9 = 0 then
  (cv (fX5_align F d p1 h8) fun h11 => (
  fX13_pack_33 F d this p0 p1 h11))
  else
  (fX13_pack_33 F d this p0 p1 h8))))))
set_option maxHeartbeats 4000000 in
theorem tX13_pack_33 (l : Launch) (w : Wd) (hfl : l.stackTraces = false) (F d : Nat) (r : Hp) (this : Nat) (x1 : Nat) (x2 : Nat) (k_this : nd_Kd this = 9) (k_x1 : nd_Kd x1 = 13) (k_x2 : nd_Kd x2 = 4) (h : Hp) (hf : fX13_pack_33 F d this x1 x2 h = some r) : nd_V l w yX13_pack cX13_pack 3 none 4 86 (.inl none, r) h 33 [(0, vr (some this)), (1, vr (some x1)), (2, vr (some x2))] [] := by
  unfold fX13_pack_33 at hf
  refine nd_aload_n (j := 0) dX13_pack_33 rfl rfl ?_
  refine nd_aload_n (j := 1) dX13_pack_34 rfl rfl ?_
  refine nd_aload_n (j := 2) dX13_pack_35 rfl rfl ?_
  replace hf := cvE hf
  obtain ⟨h1, e_h1, hf⟩ := hf
  refine nd_Vv [] (tX13_writeContent l w hfl F d k_this k_x1 k_x2 e_h1) rfl dX13_pack_36 mw_X13_writeContent (Or.inl q1251) k_this rfl q1156 q1809 (by omega) (by omega) (Nat.le_of_ble_eq_true rfl) ?_
  cases hf
  exact nd_vret dX13_pack_39
set_option maxHeartbeats 4000000 in
theorem tX13_pack (l : Launch) (w : Wd) (hfl : l.stackTraces = false) (F d : Nat) {this : Nat} {p0 : Nat} {p1 : Nat} (k_this : nd_Kd this = 9) (k_p0 : nd_Kd p0 = 13) (k_p1 : nd_Kd p1 = 4) {h : Hp} {r : Hp} (hf : fX13_pack F d this p0 p1 h = some r) : nd_C l w yX13_pack cX13_pack 3 none 4 86 [vr (some this), vr (some p0), vr (some p1)] h (.inl none, r) := by
  refine nd_start (as := [vr (some this), vr (some p0), vr (some p1)]) hfl (by decide) (Nat.le_of_ble_eq_true rfl) ?_
  unfold fX13_pack at hf
  refine nd_eqL (L' := [(0, vr (some this)), (1, vr (some p0)), (2, vr (some p1))]) rfl ?_
  refine nd_aload_n (j := 0) dX13_pack_0 rfl rfl ?_
  refine nd_getP (k := 1) dX13_pack_1 k_this rfl (Nat.le_of_ble_eq_true rfl) (nd_flO q605) rfl (fun ok1 => ?_)
  replace hf := nnE hf
  obtain ⟨a2, e_a2, hf⟩ := hf
  refine nd_topr e_a2.symm ?_
  have k_a2 : nd_Kd a2 = 10 := nd_c1 (ok1 a2 e_a2)
  refine nd_aload_n (j := 1) dX13_pack_4 rfl rfl ?_
  refine nd_getI (k := 1) dX13_pack_5 k_p0 rfl (Nat.le_of_ble_eq_true rfl) (nd_flN q907) rfl ?_
  refine nd_aload_n (j := 2) dX13_pack_8 rfl rfl ?_
  replace hf := cvE hf
  obtain ⟨h3, e_h3, hf⟩ := hf
  refine nd_Vv [] (tX14_pack l w hfl F d k_a2 k_p1 e_h3) rfl dX13_pack_9 mw_X14_pack (Or.inl q1245) k_a2 rfl q1246 q1247 (by omega) (by omega) (Nat.le_of_ble_eq_true rfl) ?_
  refine nd_aload_n (j := 1) dX13_pack_12 rfl rfl ?_
  refine nd_getI (k := 1) dX13_pack_13 k_p0 rfl (Nat.le_of_ble_eq_true rfl) (nd_flN q907) rfl ?_
  refine nd_if_le (tgt := 33) dX13_pack_16 (by decide) (fun c5 => ?_) (fun c5 => ?_)
  · replace hf := ifp c5 hf
    exact nd_loc [0, 1, 2] rfl (tX13_pack_33 l w hfl F d r _ _ _ k_this k_p0 k_p1 _ hf)
  · replace hf := ifn c5 hf
    refine nd_aload_n (j := 0) dX13_pack_19 rfl rfl ?_
    refine nd_getP (k := 1) dX13_pack_20 k_this rfl (Nat.le_of_ble_eq_true rfl) (nd_flO q605) rfl (fun ok6 => ?_)
    replace hf := nnE hf
    obtain ⟨a7, e_a7, hf⟩ := hf
    refine nd_topr e_a7.symm ?_
    have k_a7 : nd_Kd a7 = 10 := nd_c1 (ok6 a7 e_a7)
    replace hf := caE hf
    obtain ⟨v9, h8, e_h8, hf⟩ := hf
    refine nd_Vi [] (tX14_isShort l w hfl F d k_a7 e_h8) rfl dX13_pack_23 mw_X14_isShort (Or.inl q980) k_a7 rfl q981 q982 (by omega) (by omega) (Nat.le_of_ble_eq_true rfl) ?_
    refine nd_if_ne (tgt := 33) dX13_pack_26 (by decide) (fun c10 => ?_) (fun c10 => ?_)
    · replace hf := ifn c10 hf
      exact nd_loc [0, 1, 2] rfl (tX13_pack_33 l w hfl F d r _ _ _ k_this k_p0 k_p1 _ hf)
    · replace hf := ifp c10 hf
      refine nd_aload_n (j := 2) dX13_pack_29 rfl rfl ?_
      replace hf := cvE hf
      obtain ⟨h11, e_h11, hf⟩ := hf
      refine nd_Vv [] (tX5_align l w hfl F d k_p1 e_h11) rfl dX13_pack_30 mw_X5_align (Or.inl q1250) k_p1 rfl q1231 q1232 (by omega) (by omega) (Nat.le_of_ble_eq_true rfl) ?_
      exact nd_loc [0, 1, 2] rfl (tX13_pack_33 l w hfl F d r _ _ _ k_this k_p0 k_p1 _ hf)
def fX14_holds (F d : Nat) (this : Nat) (p0 : Int32) (h : Hp) : Option (Int32 × Hp) :=
  if (gI h 1400 this) = 0 then
  (if 128 ≤ p0 then
  (some (0, h))
  else
  (some (1, h)))
  else
  (ca (fX1_outside F d p0 (gI h 1401 this) (gI h 1402 this) h) fun v4 h3 => (
  if v4 = 0 then
  (some (1, h3))
  else
  (some (0, h3))))
set_option maxHeartbeats 4000000 in
theorem tX14_holds (l : Launch) (w : Wd) (hfl : l.stackTraces = false) (F d : Nat) {this : Nat} {p0 : Int32} (k_this : nd_Kd this = 10) {h : Hp} {r : Int32 × Hp} (hf : fX14_holds F d this p0 h = some r) : nd_C l w yX14_holds cX14_holds 2 (some .boolean) 1 22 [vr (some this), vi p0] h (.inl (some (vi r.1)), r.2) := by
  refine nd_start (as := [vr (some this), vi p0]) hfl (by decide) (Nat.le_of_ble_eq_true rfl) ?_
  unfold fX14_holds at hf
  refine nd_eqL (L' := [(0, vr (some this)), (1, vi p0)]) rfl ?_
  refine nd_aload_n (j := 0) dX14_holds_0 rfl rfl ?_
  refine nd_getI (k := 0) dX14_holds_1 k_this rfl (Nat.le_of_ble_eq_true rfl) (nd_flO q595) rfl ?_
  refine nd_if_eq (tgt := 30) dX14_holds_4 (by decide) (fun c1 => ?_) (fun c1 => ?_)
  · replace hf := ifp c1 hf
    refine nd_iload_n (j := 1) dX14_holds_30 rfl rfl ?_
    refine nd_sipush (v := 128) dX14_holds_31 (by decide) ?_
    refine nd_icmp_ge (tgt := 41) dX14_holds_34 (by decide) (fun c2 => ?_) (fun c2 => ?_)
    · replace hf := ifp c2 hf
      refine nd_iconst (v := 0) dX14_holds_41 (by decide) ?_
      cases hf
      exact nd_zret (v := 0) (by decide) dX14_holds_42
    · replace hf := ifn c2 hf
      refine nd_iconst (v := 1) dX14_holds_37 (by decide) ?_
      refine nd_goto (tgt := 42) dX14_holds_38 (by decide) ?_
      cases hf
      exact nd_zret (v := 1) (by decide) dX14_holds_42
  · replace hf := ifn c1 hf
    refine nd_iload_n (j := 1) dX14_holds_7 rfl rfl ?_
    refine nd_aload_n (j := 0) dX14_holds_8 rfl rfl ?_
    refine nd_getI (k := 1) dX14_holds_9 k_this rfl (Nat.le_of_ble_eq_true rfl) (nd_flO q596) rfl ?_
    refine nd_aload_n (j := 0) dX14_holds_12 rfl rfl ?_
    refine nd_getI (k := 2) dX14_holds_13 k_this rfl (Nat.le_of_ble_eq_true rfl) (nd_flO q597) rfl ?_
    replace hf := caE hf
    obtain ⟨v4, h3, e_h3, hf⟩ := hf
    refine nd_Si [] (tX1_outside l w hfl F d e_h3) rfl dX14_holds_16 mw_X1_outside (Or.inr ⟨_, q979⟩) q516 (by omega) (by omega) (Nat.le_of_ble_eq_true rfl) ?_
    refine nd_if_ne (tgt := 26) dX14_holds_19 (by decide) (fun c5 => ?_) (fun c5 => ?_)
    · replace hf := ifn c5 hf
      refine nd_iconst (v := 0) dX14_holds_26 (by decide) ?_
      refine nd_goto (tgt := 42) dX14_holds_27 (by decide) ?_
      cases hf
      exact nd_zret (v := 0) (by decide) dX14_holds_42
    · replace hf := ifp c5 hf
      refine nd_iconst (v := 1) dX14_holds_22 (by decide) ?_
      refine nd_goto (tgt := 42) dX14_holds_23 (by decide) ?_
      cases hf
      exact nd_zret (v := 1) (by decide) dX14_holds_42
def fX13_readContent_28 (F d : Nat) : Nat → Nat → Int32 → Option Nat → Int32 → Hp → Option (Option Nat × Hp)
  | 0, _, _, _, _, _ => none
  | n + 1, x1, x2, x3, x4, h =>
    if x2 ≤ x4 then
    (some (x3, h))
    else
    (oc x3
    (some (none, h))
    (fun a2 =>
    nn (gP h 404 x1) fun a4 => (
    ca (fX4_next F d x1 h) fun v6 h5 => (
    cv (fX13_add F d a2 a4 v6 h5) fun h7 => (
    bn (x4 + 1) fun v9 => (
    fX13_readContent_28 F d n x1 x2 (some a2) v9 h7))))))
def fX13_readContent_24 (F d : Nat) (x1 : Nat) (x2 : Int32) (s0 : Option Nat) (h : Hp) : Option (Option Nat × Hp) :=
  fX13_readContent_28 F d F x1 x2 s0 0 h
def fX13_readContent (F d : Nat) (this : Nat) (p0 : Nat) (p1 : Int32) (h : Hp) : Option (Option Nat × Hp) :=
  nn (gP h 1300 this) fun a2 => (
  ca (fX14_holds F d a2 p1 h) fun v4 h3 => (
  if v4 = 0 then
  (fX13_readContent_24 F d p0 p1 none h3)
  else
  (nn (gP h3 404 p0) fun a7 => (
  ca (fX3_make F d a7 4 0 h3) fun v9 h8 => (
  fX13_readContent_24 F d p0 p1 v9 h8)))))
set_option maxHeartbeats 4000000 in
theorem tX13_readContent_28 (l : Launch) (w : Wd) (hfl : l.stackTraces = false) (F d : Nat) (r : Option Nat × Hp) : ∀ (n : Nat) (x1 : Nat) (x2 : Int32) (x3 : Option Nat) (x4 : Int32) (k_x1 : nd_Kd x1 = 3) (ok_x3 : ∀ b, x3 = some b → [13].contains (nd_Kd b) = true) (h : Hp), fX13_readContent_28 F d n x1 x2 x3 x4 h = some r → nd_V l w yX13_readContent cX13_readContent 5 (some (.object "NotationDesk$Part")) 3 83 (.inl (some (vr r.1)), r.2) h 28 [(1, vr (some x1)), (2, vi x2), (3, vr x3), (4, vi x4)] [] := by
  intro n
  induction n with
  | zero => intro _ _ _ _ _ _ _ hf; cases hf
  | succ n ih =>
    intro x1 x2 x3 x4 k_x1 ok_x3 h hf
    unfold fX13_readContent_28 at hf
    refine nd_iload (j := 3) dX13_readContent_28 rfl ?_
    refine nd_iload_n (j := 1) dX13_readContent_30 rfl rfl ?_
    refine nd_icmp_ge (tgt := 56) dX13_readContent_31 (by decide) (fun c1 => ?_) (fun c1 => ?_)
    · replace hf := ifp c1 hf
      refine nd_aload_n (j := 2) dX13_readContent_56 rfl rfl ?_
      cases hf
      exact nd_aret (fun b e => okT13' (ok_x3 b e)) dX13_readContent_57
    · replace hf := ifn c1 hf
      refine nd_aload_n (j := 2) dX13_readContent_34 rfl rfl ?_
      refine nd_ifnull (tgt := 56) dX13_readContent_35 (by decide) (fun e_a2 => ?_) (fun a2 e_a2 => ?_)
      · replace hf := ocN e_a2 hf
        subst e_a2
        refine nd_aload_n (j := 2) dX13_readContent_56 rfl rfl ?_
        cases hf
        exact nd_aret (fun b e => by cases e) dX13_readContent_57
      · replace hf := ocS e_a2 hf
        have k_a2 : nd_Kd a2 = 13 := nd_c1 (ok_x3 a2 e_a2)
        subst e_a2
        refine nd_aload_n (j := 2) dX13_readContent_38 rfl rfl ?_
        refine nd_aload_n (j := 0) dX13_readContent_39 rfl rfl ?_
        refine nd_getP (k := 4) dX13_readContent_40 k_x1 rfl (Nat.le_of_ble_eq_true rfl) (nd_flN q239) rfl (fun ok3 => ?_)
        replace hf := nnE hf
        obtain ⟨a4, e_a4, hf⟩ := hf
        refine nd_topr e_a4.symm ?_
        have k_a4 : nd_Kd a4 = 2 := nd_c1 (ok3 a4 e_a4)
        refine nd_aload_n (j := 0) dX13_readContent_43 rfl rfl ?_
        replace hf := caE hf
        obtain ⟨v6, h5, e_h5, hf⟩ := hf
        refine nd_Vi [vr (some a4), vr (some a2)] (tX4_next l w hfl F d k_x1 e_h5) rfl dX13_readContent_44 mw_X4_next (Or.inl q1072) k_x1 rfl q1054 q1055 (by omega) (by omega) (Nat.le_of_ble_eq_true rfl) ?_
        replace hf := cvE hf
        obtain ⟨h7, e_h7, hf⟩ := hf
        refine nd_Sv [] (tX13_add l w hfl F d k_a2 k_a4 e_h7) rfl dX13_readContent_47 mw_X13_add (Or.inl q987) q988 (by omega) (by omega) (Nat.le_of_ble_eq_true rfl) ?_
        replace hf := bnE hf
        obtain ⟨v9, e_v9, hf⟩ := hf
        refine nd_iinc (v := v9) (j := 3) [(4, vi v9), (1, vr (some x1)), (2, vi x2), (3, vr (some a2))] dX13_readContent_50 rfl (by rw [e_v9]; rfl) (Nat.le_of_ble_eq_true rfl) rfl ?_
        refine nd_goto (tgt := 28) dX13_readContent_53 (by decide) ?_
        exact nd_loc [1, 2, 3, 0] rfl (ih _ _ _ _ k_x1 (fun b e => by cases e; rw [k_a2]; rfl) _ hf)
set_option maxHeartbeats 4000000 in
theorem tX13_readContent_24 (l : Launch) (w : Wd) (hfl : l.stackTraces = false) (F d : Nat) (r : Option Nat × Hp) (x1 : Nat) (x2 : Int32) (s0 : Option Nat) (k_x1 : nd_Kd x1 = 3) (ok_s0 : ∀ b, s0 = some b → [13].contains (nd_Kd b) = true) (h : Hp) (hf : fX13_readContent_24 F d x1 x2 s0 h = some r) : nd_V l w yX13_readContent cX13_readContent 5 (some (.object "NotationDesk$Part")) 3 83 (.inl (some (vr r.1)), r.2) h 24 [(1, vr (some x1)), (2, vi x2)] [vr s0] := by
  unfold fX13_readContent_24 at hf
  refine nd_astore_n [(3, vr s0), (1, vr (some x1)), (2, vi x2)] dX13_readContent_24 rfl (Nat.le_of_ble_eq_true rfl) rfl ?_
  refine nd_iconst (v := 0) dX13_readContent_25 (by decide) ?_
  refine nd_istore [(4, vi 0), (3, vr s0), (1, vr (some x1)), (2, vi x2)] dX13_readContent_26 (Nat.le_of_ble_eq_true rfl) rfl ?_
  exact nd_loc [2, 3, 1, 0] rfl (tX13_readContent_28 l w hfl F d r F _ _ _ _ k_x1 ok_s0 _ hf)
set_option maxHeartbeats 4000000 in
theorem tX13_readContent (l : Launch) (w : Wd) (hfl : l.stackTraces = false) (F d : Nat) {this : Nat} {p0 : Nat} {p1 : Int32} (k_this : nd_Kd this = 9) (k_p0 : nd_Kd p0 = 3) {h : Hp} {r : Option Nat × Hp} (hf : fX13_readContent F d this p0 p1 h = some r) : nd_C l w yX13_readContent cX13_readContent 5 (some (.object "NotationDesk$Part")) 3 83 [vr (some this), vr (some p0), vi p1] h (.inl (some (vr r.1)), r.2) := by
  refine nd_start (as := [vr (some this), vr (some p0), vi p1]) hfl (by decide) (Nat.le_of_ble_eq_true rfl) ?_
  unfold fX13_readContent at hf
  refine nd_eqL (L' := [(0, vr (some this)), (1, vr (some p0)), (2, vi p1)]) rfl ?_
  refine nd_aload_n (j := 0) dX13_readContent_0 rfl rfl ?_
  refine nd_getP (k := 1) dX13_readContent_1 k_this rfl (Nat.le_of_ble_eq_true rfl) (nd_flO q605) rfl (fun ok1 => ?_)
  replace hf := nnE hf
  obtain ⟨a2, e_a2, hf⟩ := hf
  refine nd_topr e_a2.symm ?_
  have k_a2 : nd_Kd a2 = 10 := nd_c1 (ok1 a2 e_a2)
  refine nd_iload_n (j := 2) dX13_readContent_4 rfl rfl ?_
  replace hf := caE hf
  obtain ⟨v4, h3, e_h3, hf⟩ := hf
  refine nd_Vi [] (tX14_holds l w hfl F d k_a2 e_h3) rfl dX13_readContent_5 mw_X14_holds (Or.inl q975) k_a2 rfl q976 q977 (by omega) (by omega) (Nat.le_of_ble_eq_true rfl) ?_
  refine nd_if_eq (tgt := 23) dX13_readContent_8 (by decide) (fun c5 => ?_) (fun c5 => ?_)
  · replace hf := ifp c5 hf
    refine nd_null dX13_readContent_23 ?_
    exact nd_loc [1, 2] rfl (tX13_readContent_24 l w hfl F d r _ _ _ k_p0 (fun b e => by cases e) _ hf)
  · replace hf := ifn c5 hf
    refine nd_aload_n (j := 1) dX13_readContent_11 rfl rfl ?_
    refine nd_getP (k := 4) dX13_readContent_12 k_p0 rfl (Nat.le_of_ble_eq_true rfl) (nd_flN q239) rfl (fun ok6 => ?_)
    replace hf := nnE hf
    obtain ⟨a7, e_a7, hf⟩ := hf
    refine nd_topr e_a7.symm ?_
    have k_a7 : nd_Kd a7 = 2 := nd_c1 (ok6 a7 e_a7)
    refine nd_iconst (v := 4) dX13_readContent_15 (by decide) ?_
    refine nd_iconst (v := 0) dX13_readContent_16 (by decide) ?_
    replace hf := caE hf
    obtain ⟨v9, h8, e_h8, hf⟩ := hf
    refine nd_Vr [] (tX3_make l w hfl F d k_a7 e_h8) rfl dX13_readContent_17 mw_X3_make (Or.inl q985) k_a7 rfl q897 q898 (by omega) (by omega) (Nat.le_of_ble_eq_true rfl) (fun ok10 => ?_)
    have ok_v9 : ∀ b, v9 = some b → [13].contains (nd_Kd b) = true := fun b q => okT13 (ok10 b q)
    refine nd_goto (tgt := 24) dX13_readContent_20 (by decide) ?_
    exact nd_loc [1, 2] rfl (tX13_readContent_24 l w hfl F d r _ _ _ k_p0 ok_v9 _ hf)
def fX14_unpack (F d : Nat) (this : Nat) (p0 : Nat) (h : Hp) : Option (Int32 × Hp) :=
  if (gI h 1400 this) = 0 then
  (ca (fX4_takeNumber F d p0 0 255 h) fun v3 h2 => (
  some (v3, h2)))
  else
  (ca (fX4_takeNumber F d p0 (gI h 1401 this) (gI h 1402 this) h) fun v5 h4 => (
  some (v5, h4)))
set_option maxHeartbeats 4000000 in
theorem tX14_unpack (l : Launch) (w : Wd) (hfl : l.stackTraces = false) (F d : Nat) {this : Nat} {p0 : Nat} (k_this : nd_Kd this = 10) (k_p0 : nd_Kd p0 = 3) {h : Hp} {r : Int32 × Hp} (hf : fX14_unpack F d this p0 h = some r) : nd_C l w yX14_unpack cX14_unpack 2 (some .int) 2 47 [vr (some this), vr (some p0)] h (.inl (some (vi r.1)), r.2) := by
  refine nd_start (as := [vr (some this), vr (some p0)]) hfl (by decide) (Nat.le_of_ble_eq_true rfl) ?_
  unfold fX14_unpack at hf
  refine nd_eqL (L' := [(0, vr (some this)), (1, vr (some p0))]) rfl ?_
  refine nd_aload_n (j := 0) dX14_unpack_0 rfl rfl ?_
  refine nd_getI (k := 0) dX14_unpack_1 k_this rfl (Nat.le_of_ble_eq_true rfl) (nd_flO q595) rfl ?_
  refine nd_if_eq (tgt := 22) dX14_unpack_4 (by decide) (fun c1 => ?_) (fun c1 => ?_)
  · replace hf := ifp c1 hf
    refine nd_aload_n (j := 1) dX14_unpack_22 rfl rfl ?_
    refine nd_iconst (v := 0) dX14_unpack_23 (by decide) ?_
    refine nd_sipush (v := 255) dX14_unpack_24 (by decide) ?_
    replace hf := caE hf
    obtain ⟨v3, h2, e_h2, hf⟩ := hf
    refine nd_Vi [] (tX4_takeNumber l w hfl F d k_p0 e_h2) rfl dX14_unpack_27 mw_X4_takeNumber (Or.inl q973) k_p0 rfl q871 q872 (by omega) (by omega) (Nat.le_of_ble_eq_true rfl) ?_
    cases hf
    exact nd_iret (v := v3) dX14_unpack_30
  · replace hf := ifn c1 hf
    refine nd_aload_n (j := 1) dX14_unpack_7 rfl rfl ?_
    refine nd_aload_n (j := 0) dX14_unpack_8 rfl rfl ?_
    refine nd_getI (k := 1) dX14_unpack_9 k_this rfl (Nat.le_of_ble_eq_true rfl) (nd_flO q596) rfl ?_
    refine nd_aload_n (j := 0) dX14_unpack_12 rfl rfl ?_
    refine nd_getI (k := 2) dX14_unpack_13 k_this rfl (Nat.le_of_ble_eq_true rfl) (nd_flO q597) rfl ?_
    replace hf := caE hf
    obtain ⟨v5, h4, e_h4, hf⟩ := hf
    refine nd_Vi [] (tX4_takeNumber l w hfl F d k_p0 e_h4) rfl dX14_unpack_16 mw_X4_takeNumber (Or.inl q973) k_p0 rfl q871 q872 (by omega) (by omega) (Nat.le_of_ble_eq_true rfl) ?_
    refine nd_goto (tgt := 30) dX14_unpack_19 (by decide) ?_
    cases hf
    exact nd_iret (v := v5) dX14_unpack_30
def fX13_unpack_83 (F d : Nat) : Nat → Nat → Int32 → Option Nat → Int32 → Hp → Option (Option Nat × Hp)
  | 0, _, _, _, _, _ => none
  | n + 1, x1, x2, x3, x4, h =>
    if x2 ≤ x4 then
    (some (x3, h))
    else
    (oc x3
    (some (none, h))
    (fun a2 =>
    nn (gP h 404 x1) fun a4 => (
    ca (fX4_take F d x1 8 h) fun v6 h5 => (
    cv (fX13_add F d a2 a4 v6 h5) fun h7 => (
    bn (x4 + 1) fun v9 => (
    fX13_unpack_83 F d n x1 x2 (some a2) v9 h7))))))
def fX13_unpack_79 (F d : Nat) (x1 : Nat) (x2 : Int32) (s0 : Option Nat) (h : Hp) : Option (Option Nat × Hp) :=
  fX13_unpack_83 F d F x1 x2 s0 0 h
def fX13_unpack_47 (F d : Nat) (x1 : Nat) (x2 : Int32) (h : Hp) : Option (Option Nat × Hp) :=
  if ((gI h 403 x1) + (8 * x2)) ≤ (8 * (gI h 402 x1)) then
  (nn (gP h 404 x1) fun a3 => (
  ca (fX3_make F d a3 4 0 h) fun v5 h4 => (
  fX13_unpack_79 F d x1 x2 v5 h4)))
  else
  (fX13_unpack_79 F d x1 x2 none h)
def fX13_unpack (F d : Nat) (this : Nat) (p0 : Nat) (h : Hp) : Option (Option Nat × Hp) :=
  nn (gP h 1300 this) fun a2 => (
  ca (fX14_unpack F d a2 p0 h) fun v4 h3 => (
  ca (fX4_isThere F d p0 h3) fun v6 h5 => (
  if v6 = 0 then
  (some (none, h5))
  else
  (nn (gP h5 1300 this) fun a9 => (
  ca (fX14_holds F d a9 v4 h5) fun v11 h10 => (
  if v11 = 0 then
  (some (none, h10))
  else
  (if v4 ≤ 0 then
  (fX13_unpack_47 F d p0 v4 h10)
  else
  (nn (gP h10 1300 this) fun a15 => (
  ca (fX14_isShort F d a15 h10) fun v17 h16 => (
  if v17 = 0 then
  (cv (fX4_align F d p0 h16) fun h19 => (
  fX13_unpack_47 F d p0 v4 h19))
  else
  (fX13_unpack_47 F d p0 v4 h16)))))))))))
set_option maxHeartbeats 4000000 in
theorem tX13_unpack_83 (l : Launch) (w : Wd) (hfl : l.stackTraces = false) (F d : Nat) (r : Option Nat × Hp) : ∀ (n : Nat) (x1 : Nat) (x2 : Int32) (x3 : Option Nat) (x4 : Int32) (k_x1 : nd_Kd x1 = 3) (ok_x3 : ∀ b, x3 = some b → [13].contains (nd_Kd b) = true) (h : Hp), fX13_unpack_83 F d n x1 x2 x3 x4 h = some r → nd_V l w yX13_unpack cX13_unpack 5 (some (.object "NotationDesk$Part")) 3 83 (.inl (some (vr r.1)), r.2) h 83 [(1, vr (some x1)), (2, vi x2), (3, vr x3), (4, vi x4)] [] := by
  intro n
  induction n with
  | zero => intro _ _ _ _ _ _ _ hf; cases hf
  | succ n ih =>
    intro x1 x2 x3 x4 k_x1 ok_x3 h hf
    unfold fX13_unpack_83 at hf
    refine nd_iload (j := 3) dX13_unpack_83 rfl ?_
    refine nd_iload_n (j := 1) dX13_unpack_85 rfl rfl ?_
    refine nd_icmp_ge (tgt := 113) dX13_unpack_86 (by decide) (fun c1 => ?_) (fun c1 => ?_)
    · replace hf := ifp c1 hf
      refine nd_aload_n (j := 2) dX13_unpack_113 rfl rfl ?_
      cases hf
      exact nd_aret (fun b e => okT13' (ok_x3 b e)) dX13_unpack_114
    · replace hf := ifn c1 hf
      refine nd_aload_n (j := 2) dX13_unpack_89 rfl rfl ?_
      refine nd_ifnull (tgt := 113) dX13_unpack_90 (by decide) (fun e_a2 => ?_) (fun a2 e_a2 => ?_)
      · replace hf := ocN e_a2 hf
        subst e_a2
        refine nd_aload_n (j := 2) dX13_unpack_113 rfl rfl ?_
        cases hf
        exact nd_aret (fun b e => by cases e) dX13_unpack_114
      · replace hf := ocS e_a2 hf
        have k_a2 : nd_Kd a2 = 13 := nd_c1 (ok_x3 a2 e_a2)
        subst e_a2
        refine nd_aload_n (j := 2) dX13_unpack_93 rfl rfl ?_
        refine nd_aload_n (j := 0) dX13_unpack_94 rfl rfl ?_
        refine nd_getP (k := 4) dX13_unpack_95 k_x1 rfl (Nat.le_of_ble_eq_true rfl) (nd_flN q239) rfl (fun ok3 => ?_)
        replace hf := nnE hf
        obtain ⟨a4, e_a4, hf⟩ := hf
        refine nd_topr e_a4.symm ?_
        have k_a4 : nd_Kd a4 = 2 := nd_c1 (ok3 a4 e_a4)
        refine nd_aload_n (j := 0) dX13_unpack_98 rfl rfl ?_
        refine nd_bipush (v := 8) dX13_unpack_99 (by decide) ?_
        replace hf := caE hf
        obtain ⟨v6, h5, e_h5, hf⟩ := hf
        refine nd_Vi [vr (some a4), vr (some a2)] (tX4_take l w hfl F d k_x1 e_h5) rfl dX13_unpack_101 mw_X4_take (Or.inl q986) k_x1 rfl q879 q880 (by omega) (by omega) (Nat.le_of_ble_eq_true rfl) ?_
        replace hf := cvE hf
        obtain ⟨h7, e_h7, hf⟩ := hf
        refine nd_Sv [] (tX13_add l w hfl F d k_a2 k_a4 e_h7) rfl dX13_unpack_104 mw_X13_add (Or.inl q987) q988 (by omega) (by omega) (Nat.le_of_ble_eq_true rfl) ?_
        replace hf := bnE hf
        obtain ⟨v9, e_v9, hf⟩ := hf
        refine nd_iinc (v := v9) (j := 3) [(4, vi v9), (1, vr (some x1)), (2, vi x2), (3, vr (some a2))] dX13_unpack_107 rfl (by rw [e_v9]; rfl) (Nat.le_of_ble_eq_true rfl) rfl ?_
        refine nd_goto (tgt := 83) dX13_unpack_110 (by decide) ?_
        exact nd_loc [1, 2, 3, 0] rfl (ih _ _ _ _ k_x1 (fun b e => by cases e; rw [k_a2]; rfl) _ hf)
set_option maxHeartbeats 4000000 in
theorem tX13_unpack_79 (l : Launch) (w : Wd) (hfl : l.stackTraces = false) (F d : Nat) (r : Option Nat × Hp) (x1 : Nat) (x2 : Int32) (s0 : Option Nat) (k_x1 : nd_Kd x1 = 3) (ok_s0 : ∀ b, s0 = some b → [13].contains (nd_Kd b) = true) (h : Hp) (hf : fX13_unpack_79 F d x1 x2 s0 h = some r) : nd_V l w yX13_unpack cX13_unpack 5 (some (.object "NotationDesk$Part")) 3 83 (.inl (some (vr r.1)), r.2) h 79 [(1, vr (some x1)), (2, vi x2)] [vr s0] := by
  unfold fX13_unpack_79 at hf
  refine nd_astore_n [(3, vr s0), (1, vr (some x1)), (2, vi x2)] dX13_unpack_79 rfl (Nat.le_of_ble_eq_true rfl) rfl ?_
  refine nd_iconst (v := 0) dX13_unpack_80 (by decide) ?_
  refine nd_istore [(4, vi 0), (3, vr s0), (1, vr (some x1)), (2, vi x2)] dX13_unpack_81 (Nat.le_of_ble_eq_true rfl) rfl ?_
  exact nd_loc [2, 3, 1, 0] rfl (tX13_unpack_83 l w hfl F d r F _ _ _ _ k_x1 ok_s0 _ hf)
set_option maxHeartbeats 4000000 in
theorem tX13_unpack_47 (l : Launch) (w : Wd) (hfl : l.stackTraces = false) (F d : Nat) (r : Option Nat × Hp) (x1 : Nat) (x2 : Int32) (k_x1 : nd_Kd x1 = 3) (h : Hp) (hf : fX13_unpack_47 F d x1 x2 h = some r) : nd_V l w yX13_unpack cX13_unpack 5 (some (.object "NotationDesk$Part")) 3 83 (.inl (some (vr r.1)), r.2) h 47 [(1, vr (some x1)), (2, vi x2)] [] := by
  unfold fX13_unpack_47 at hf
  refine nd_aload_n (j := 0) dX13_unpack_47 rfl rfl ?_
  refine nd_getI (k := 3) dX13_unpack_48 k_x1 rfl (Nat.le_of_ble_eq_true rfl) (nd_flN q237) rfl ?_
  refine nd_bipush (v := 8) dX13_unpack_51 (by decide) ?_
  refine nd_iload_n (j := 1) dX13_unpack_53 rfl rfl ?_
  refine nd_imul dX13_unpack_54 ?_
  refine nd_iadd dX13_unpack_55 ?_
  refine nd_bipush (v := 8) dX13_unpack_56 (by decide) ?_
  refine nd_aload_n (j := 0) dX13_unpack_58 rfl rfl ?_
  refine nd_getI (k := 2) dX13_unpack_59 k_x1 rfl (Nat.le_of_ble_eq_true rfl) (nd_flN q235) rfl ?_
  refine nd_imul dX13_unpack_62 ?_
  refine nd_icmp_le (tgt := 70) dX13_unpack_63 (by decide) (fun c1 => ?_) (fun c1 => ?_)
  · replace hf := ifp c1 hf
    refine nd_aload_n (j := 0) dX13_unpack_70 rfl rfl ?_
    refine nd_getP (k := 4) dX13_unpack_71 k_x1 rfl (Nat.le_of_ble_eq_true rfl) (nd_flN q239) rfl (fun ok2 => ?_)
    replace hf := nnE hf
    obtain ⟨a3, e_a3, hf⟩ := hf
    refine nd_topr e_a3.symm ?_
    have k_a3 : nd_Kd a3 = 2 := nd_c1 (ok2 a3 e_a3)
    refine nd_iconst (v := 4) dX13_unpack_74 (by decide) ?_
    refine nd_iconst (v := 0) dX13_unpack_75 (by decide) ?_
    replace hf := caE hf
    obtain ⟨v5, h4, e_h4, hf⟩ := hf
    refine nd_Vr [] (tX3_make l w hfl F d k_a3 e_h4) rfl dX13_unpack_76 mw_X3_make (Or.inl q985) k_a3 rfl q897 q898 (by omega) (by omega) (Nat.le_of_ble_eq_true rfl) (fun ok6 => ?_)
    have ok_v5 : ∀ b, v5 = some b → [13].contains (nd_Kd b) = true := fun b q => okT13 (ok6 b q)
    exact nd_loc [0, 1] rfl (tX13_unpack_79 l w hfl F d r _ _ _ k_x1 ok_v5 _ hf)
  · replace hf := ifn c1 hf
    refine nd_null dX13_unpack_66 ?_
    refine nd_goto (tgt := 79) dX13_unpack_67 (by decide) ?_
    exact nd_loc [0, 1] rfl (tX13_unpack_79 l w hfl F d r _ _ _ k_x1 (fun b e => by cases e) _ hf)
set_option maxHeartbeats 4000000 in
theorem tX13_unpack (l : Launch) (w : Wd) (hfl : l.stackTraces = false) (F d : Nat) {this : Nat} {p0 : Nat} (k_this : nd_Kd this = 9) (k_p0 : nd_Kd p0 = 3) {h : Hp} {r : Option Nat × Hp} (hf : fX13_unpack F d this p0 h = some r) : nd_C l w yX13_unpack cX13_unpack 5 (some (.object "NotationDesk$Part")) 3 83 [vr (some this), vr (some p0)] h (.inl (some (vr r.1)), r.2) := by
  refine nd_start (as := [vr (some this), vr (some p0)]) hfl (by decide) (Nat.le_of_ble_eq_true rfl) ?_
  unfold fX13_unpack at hf
  refine nd_eqL (L' := [(0, vr (some this)), (1, vr (some p0))]) rfl ?_
  refine nd_aload_n (j := 0) dX13_unpack_0 rfl rfl ?_
  refine nd_getP (k := 1) dX13_unpack_1 k_this rfl (Nat.le_of_ble_eq_true rfl) (nd_flO q605) rfl (fun ok1 => ?_)
  replace hf := nnE hf
  obtain ⟨a2, e_a2, hf⟩ := hf
  refine nd_topr e_a2.symm ?_
  have k_a2 : nd_Kd a2 = 10 := nd_c1 (ok1 a2 e_a2)
  refine nd_aload_n (j := 1) dX13_unpack_4 rfl rfl ?_
  replace hf := caE hf
  obtain ⟨v4, h3, e_h3, hf⟩ := hf
  refine nd_Vi [] (tX14_unpack l w hfl F d k_a2 k_p0 e_h3) rfl dX13_unpack_5 mw_X14_unpack (Or.inl q969) k_a2 rfl q970 q971 (by omega) (by omega) (Nat.le_of_ble_eq_true rfl) ?_
  refine nd_istore_n [(2, vi v4), (0, vr (some this)), (1, vr (some p0))] dX13_unpack_8 rfl (Nat.le_of_ble_eq_true rfl) rfl ?_
  refine nd_aload_n (j := 2) dX13_unpack_9 rfl rfl ?_
  replace hf := caE hf
  obtain ⟨v6, h5, e_h5, hf⟩ := hf
  refine nd_Vi [] (tX4_isThere l w hfl F d k_p0 e_h5) rfl dX13_unpack_10 mw_X4_isThere (Or.inl q974) k_p0 rfl q886 q887 (by omega) (by omega) (Nat.le_of_ble_eq_true rfl) ?_
  refine nd_if_eq (tgt := 27) dX13_unpack_13 (by decide) (fun c7 => ?_) (fun c7 => ?_)
  · replace hf := ifp c7 hf
    refine nd_null dX13_unpack_27 ?_
    cases hf
    exact nd_aret (fun b e => by cases e) dX13_unpack_28
  · replace hf := ifn c7 hf
    refine nd_aload_n (j := 1) dX13_unpack_16 rfl rfl ?_
    refine nd_getP (k := 1) dX13_unpack_17 k_this rfl (Nat.le_of_ble_eq_true rfl) (nd_flO q605) rfl (fun ok8 => ?_)
    replace hf := nnE hf
    obtain ⟨a9, e_a9, hf⟩ := hf
    refine nd_topr e_a9.symm ?_
    have k_a9 : nd_Kd a9 = 10 := nd_c1 (ok8 a9 e_a9)
    refine nd_iload_n (j := 0) dX13_unpack_20 rfl rfl ?_
    replace hf := caE hf
    obtain ⟨v11, h10, e_h10, hf⟩ := hf
    refine nd_Vi [] (tX14_holds l w hfl F d k_a9 e_h10) rfl dX13_unpack_21 mw_X14_holds (Or.inl q975) k_a9 rfl q976 q977 (by omega) (by omega) (Nat.le_of_ble_eq_true rfl) ?_
    refine nd_if_ne (tgt := 29) dX13_unpack_24 (by decide) (fun c12 => ?_) (fun c12 => ?_)
    · replace hf := ifn c12 hf
      refine nd_iload_n (j := 0) dX13_unpack_29 rfl rfl ?_
      refine nd_if_le (tgt := 47) dX13_unpack_30 (by decide) (fun c13 => ?_) (fun c13 => ?_)
      · replace hf := ifp c13 hf
        exact nd_loc [2, 0] rfl (tX13_unpack_47 l w hfl F d r _ _ k_p0 _ hf)
      · replace hf := ifn c13 hf
        refine nd_aload_n (j := 1) dX13_unpack_33 rfl rfl ?_
        refine nd_getP (k := 1) dX13_unpack_34 k_this rfl (Nat.le_of_ble_eq_true rfl) (nd_flO q605) rfl (fun ok14 => ?_)
        replace hf := nnE hf
        obtain ⟨a15, e_a15, hf⟩ := hf
        refine nd_topr e_a15.symm ?_
        have k_a15 : nd_Kd a15 = 10 := nd_c1 (ok14 a15 e_a15)
        replace hf := caE hf
        obtain ⟨v17, h16, e_h16, hf⟩ := hf
        refine nd_Vi [] (tX14_isShort l w hfl F d k_a15 e_h16) rfl dX13_unpack_37 mw_X14_isShort (Or.inl q980) k_a15 rfl q981 q982 (by omega) (by omega) (Nat.le_of_ble_eq_true rfl) ?_
        refine nd_if_ne (tgt := 47) dX13_unpack_40 (by decide) (fun c18 => ?_) (fun c18 => ?_)
        · replace hf := ifn c18 hf
          exact nd_loc [2, 0] rfl (tX13_unpack_47 l w hfl F d r _ _ k_p0 _ hf)
        · replace hf := ifp c18 hf
          refine nd_aload_n (j := 2) dX13_unpack_43 rfl rfl ?_
          replace hf := cvE hf
          obtain ⟨h19, e_h19, hf⟩ := hf
          refine nd_Vv [] (tX4_align l w hfl F d k_p0 e_h19) rfl dX13_unpack_44 mw_X4_align (Or.inl q984) k_p0 rfl q875 q876 (by omega) (by omega) (Nat.le_of_ble_eq_true rfl) ?_
          exact nd_loc [2, 0] rfl (tX13_unpack_47 l w hfl F d r _ _ k_p0 _ hf)
    · replace hf := ifp c12 hf
      refine nd_null dX13_unpack_27 ?_
      cases hf
      exact nd_aret (fun b e => by cases e) dX13_unpack_28
def fX17_component_5 (F d : Nat) : Nat → Int32 → Option Nat → Hp → Option (Option Nat × Hp)
  | 0, _, _, _ => none
  | n + 1, x1, x2, h =>
    oc x2
    (some (none, h))
    (fun a1 =>
    if (gI h 1703 a1) = x1 then
    (some ((some a1), h))
    else
    (bn (gP h 1708 a1) fun o4 => (
    fX17_component_5 F d n x1 o4 h)))
def fX17_component (F d : Nat) (this : Nat) (p0 : Int32) (h : Hp) : Option (Option Nat × Hp) :=
  bn (gP h 1706 this) fun o2 => (
  fX17_component_5 F d F p0 o2 h)
set_option maxHeartbeats 4000000 in
theorem tX17_component_5 (l : Launch) (w : Wd) (hfl : l.stackTraces = false) (F d : Nat) (r : Option Nat × Hp) : ∀ (n : Nat) (x1 : Int32) (x2 : Option Nat) (ok_x2 : ∀ b, x2 = some b → [13].contains (nd_Kd b) = true) (h : Hp), fX17_component_5 F d n x1 x2 h = some r → nd_V l w yX17_component cX17_component 3 (some (.object "NotationDesk$Part")) 0 0 (.inl (some (vr r.1)), r.2) h 5 [(1, vi x1), (2, vr x2)] [] := by
  intro n
  induction n with
  | zero => intro _ _ _ _ hf; cases hf
  | succ n ih =>
    intro x1 x2 ok_x2 h hf
    unfold fX17_component_5 at hf
    refine nd_aload_n (j := 1) dX17_component_5 rfl rfl ?_
    refine nd_ifnull (tgt := 27) dX17_component_6 (by decide) (fun e_a1 => ?_) (fun a1 e_a1 => ?_)
    · replace hf := ocN e_a1 hf
      subst e_a1
      refine nd_null dX17_component_27 ?_
      cases hf
      exact nd_aret (fun b e => by cases e) dX17_component_28
    · replace hf := ocS e_a1 hf
      have k_a1 : nd_Kd a1 = 13 := nd_c1 (ok_x2 a1 e_a1)
      subst e_a1
      refine nd_aload_n (j := 1) dX17_component_9 rfl rfl ?_
      refine nd_getI (k := 3) dX17_component_10 k_a1 rfl (Nat.le_of_ble_eq_true rfl) (nd_flO q917) rfl ?_
      refine nd_iload_n (j := 0) dX17_component_13 rfl rfl ?_
      refine nd_icmp_ne (tgt := 19) dX17_component_14 (by decide) (fun c2 => ?_) (fun c2 => ?_)
      · replace hf := ifn c2 hf
        refine nd_aload_n (j := 1) dX17_component_19 rfl rfl ?_
        refine nd_getP (k := 8) dX17_component_20 k_a1 rfl (Nat.le_of_ble_eq_true rfl) (nd_flO q929) rfl (fun ok3 => ?_)
        replace hf := bnE hf
        obtain ⟨o4, e_o4, hf⟩ := hf
        refine nd_topr e_o4 ?_
        have ok_o4 : ∀ b, o4 = some b → [13].contains (nd_Kd b) = true := fun b q => ok3 b (e_o4 ▸ q)
        refine nd_astore_n [(2, vr o4), (1, vi x1)] dX17_component_23 rfl (Nat.le_of_ble_eq_true rfl) rfl ?_
        refine nd_goto (tgt := 5) dX17_component_24 (by decide) ?_
        exact nd_loc [1, 0] rfl (ih _ _ ok_o4 _ hf)
      · replace hf := ifp c2 hf
        refine nd_aload_n (j := 1) dX17_component_17 rfl rfl ?_
        cases hf
        exact nd_aret (fun b e => by cases e; exact okT13' (by rw [k_a1]; rfl)) dX17_component_18
set_option maxHeartbeats 4000000 in
theorem tX17_component (l : Launch) (w : Wd) (hfl : l.stackTraces = false) (F d : Nat) {this : Nat} {p0 : Int32} (k_this : nd_Kd this = 13) {h : Hp} {r : Option Nat × Hp} (hf : fX17_component F d this p0 h = some r) : nd_C l w yX17_component cX17_component 3 (some (.object "NotationDesk$Part")) 0 0 [vr (some this), vi p0] h (.inl (some (vr r.1)), r.2) := by
  refine nd_start (as := [vr (some this), vi p0]) hfl (by decide) (Nat.le_of_ble_eq_true rfl) ?_
  unfold fX17_component at hf
  refine nd_eqL (L' := [(0, vr (some this)), (1, vi p0)]) rfl ?_
  refine nd_aload_n (j := 0) dX17_component_0 rfl rfl ?_
  refine nd_getP (k := 6) dX17_component_1 k_this rfl (Nat.le_of_ble_eq_true rfl) (nd_flO q923) rfl (fun ok1 => ?_)
  replace hf := bnE hf
  obtain ⟨o2, e_o2, hf⟩ := hf
  refine nd_topr e_o2 ?_
  have ok_o2 : ∀ b, o2 = some b → [13].contains (nd_Kd b) = true := fun b q => ok1 b (e_o2 ▸ q)
  refine nd_astore_n [(2, vr o2), (0, vr (some this)), (1, vi p0)] dX17_component_4 rfl (Nat.le_of_ble_eq_true rfl) rfl ?_
  exact nd_loc [2, 0] rfl (tX17_component_5 l w hfl F d r F _ _ ok_o2 _ hf)
def fX16_given (F d : Nat) (R_given : Nat → Nat → Int32 → Hp → Option (Option Nat × Hp)) (this : Nat) (p0 : Nat) (p1 : Int32) (h : Hp) : Option (Option Nat × Hp) :=
  nn (gP h 1602 this) fun a2 => (
  ca (R_given a2 p0 p1 h) fun v4 h3 => (
  some (v4, h3)))
set_option maxHeartbeats 4000000 in
theorem tX16_given (l : Launch) (w : Wd) (hfl : l.stackTraces = false) (F d : Nat) (R_given : Nat → Nat → Int32 → Hp → Option (Option Nat × Hp)) (hR_given : ∀ {b : Nat} {p0 : Nat} {p1 : Int32} (k_b : [6, 7, 8, 9, 11, 12].contains (nd_Kd b) = true) (k_p0 : nd_Kd p0 = 2) {h : Hp} {r : Option Nat × Hp}, R_given b p0 p1 h = some r → nc_given l w b (1 + 8 * d) (30 + 400 * d) [vr (some b), vr (some p0), vi p1] h (.inl (some (vr r.1)), r.2)) {this : Nat} {p0 : Nat} {p1 : Int32} (k_this : nd_Kd this = 12) (k_p0 : nd_Kd p0 = 2) {h : Hp} {r : Option Nat × Hp} (hf : fX16_given F d R_given this p0 p1 h = some r) : nd_C l w yX16_given cX16_given 3 (some (.object "NotationDesk$Part")) (2 + 8 * d) (52 + 400 * d) [vr (some this), vr (some p0), vi p1] h (.inl (some (vr r.1)), r.2) := by
  refine nd_start (as := [vr (some this), vr (some p0), vi p1]) hfl (by decide) (Nat.le_of_ble_eq_true rfl) ?_
  unfold fX16_given at hf
  refine nd_eqL (L' := [(0, vr (some this)), (1, vr (some p0)), (2, vi p1)]) rfl ?_
  refine nd_aload_n (j := 0) dX16_given_0 rfl rfl ?_
  refine nd_getP (k := 2) dX16_given_1 k_this rfl (Nat.le_of_ble_eq_true rfl) (nd_flO q648) rfl (fun ok1 => ?_)
  replace hf := nnE hf
  obtain ⟨a2, e_a2, hf⟩ := hf
  refine nd_topr e_a2.symm ?_
  have k_a2 : [6, 7, 8, 9, 11, 12].contains (nd_Kd a2) = true := ok1 a2 e_a2
  refine nd_aload_n (j := 1) dX16_given_4 rfl rfl ?_
  refine nd_iload_n (j := 2) dX16_given_5 rfl rfl ?_
  replace hf := caE hf
  obtain ⟨v4, h3, e_h3, hf⟩ := hf
  refine nd_v_given [] (hR_given k_a2 k_p0 e_h3) rfl dX16_given_6 q1028 k_a2 (by omega) (by omega) (Nat.le_of_ble_eq_true rfl) (fun ok5 => ?_)
  have ok_v4 : ∀ b, v4 = some b → [13].contains (nd_Kd b) = true := fun b q => okT13 (ok5 b q)
  cases hf
  exact nd_aret (fun b e => okT13' (ok_v4 b e)) dX16_given_9
def fX7_given (F d : Nat) (this : Nat) (p0 : Nat) (p1 : Int32) (h : Hp) : Option (Option Nat × Hp) :=
  some (none, h)
set_option maxHeartbeats 4000000 in
theorem tX7_given (l : Launch) (w : Wd) (hfl : l.stackTraces = false) (F d : Nat) {this : Nat} {p0 : Nat} {p1 : Int32} (k_this : [6, 7, 8, 9, 11, 12].contains (nd_Kd this) = true) (k_p0 : nd_Kd p0 = 2) {h : Hp} {r : Option Nat × Hp} (hf : fX7_given F d this p0 p1 h = some r) : nd_C l w yX7_given cX7_given 3 (some (.object "NotationDesk$Part")) 0 0 [vr (some this), vr (some p0), vi p1] h (.inl (some (vr r.1)), r.2) := by
  refine nd_start (as := [vr (some this), vr (some p0), vi p1]) hfl (by decide) (Nat.le_of_ble_eq_true rfl) ?_
  unfold fX7_given at hf
  refine nd_eqL (L' := [(0, vr (some this)), (1, vr (some p0)), (2, vi p1)]) rfl ?_
  refine nd_null dX7_given_0 ?_
  cases hf
  exact nd_aret (fun b e => by cases e) dX7_given_1
def v_given (F : Nat) : Nat → Nat → Nat → Int32 → Hp → Option (Option Nat × Hp)
  | 0, _, _, _, _ => none
  | d + 1, b, p0, p1, h =>
    if nd_Kd b = 6 then fX9_given F d b p0 p1 h
    else if nd_Kd b = 7 then fX7_given F d b p0 p1 h
    else if nd_Kd b = 8 then fX7_given F d b p0 p1 h
    else if nd_Kd b = 9 then fX7_given F d b p0 p1 h
    else if nd_Kd b = 11 then fX7_given F d b p0 p1 h
    else if nd_Kd b = 12 then fX16_given F d (v_given F d) b p0 p1 h
    else none
set_option maxHeartbeats 4000000 in
theorem tv_given (l : Launch) (w : Wd) (hfl : l.stackTraces = false) (F : Nat) : ∀ (d : Nat) {b : Nat} {p0 : Nat} {p1 : Int32} (k_b : [6, 7, 8, 9, 11, 12].contains (nd_Kd b) = true) (k_p0 : nd_Kd p0 = 2) {h : Hp} {r : Option Nat × Hp}, v_given F d b p0 p1 h = some r → nc_given l w b (1 + 8 * d) (30 + 400 * d) [vr (some b), vr (some p0), vi p1] h (.inl (some (vr r.1)), r.2) := by
  intro d
  induction d with
  | zero => intro b p0 p1 k_b k_p0 h r hf; cases hf
  | succ d ih =>
    intro b p0 p1 k_b k_p0 h r hf
    unfold v_given at hf
    refine ⟨fun e_ => ?_, fun e_ => ?_, fun e_ => ?_, fun e_ => ?_, fun e_ => ?_, fun e_ => ?_⟩
    · rw [if_pos e_] at hf
      exact nd_C.room (tX9_given l w hfl F d e_ k_p0 hf) (by omega) (by omega)
    · rw [if_neg (by omega)] at hf; rw [if_pos e_] at hf
      exact nd_C.room (tX7_given l w hfl F d (by rw [e_]; rfl) k_p0 hf) (by omega) (by omega)
    · rw [if_neg (by omega)] at hf; rw [if_neg (by omega)] at hf; rw [if_pos e_] at hf
      exact nd_C.room (tX7_given l w hfl F d (by rw [e_]; rfl) k_p0 hf) (by omega) (by omega)
    · rw [if_neg (by omega)] at hf; rw [if_neg (by omega)] at hf; rw [if_neg (by omega)] at hf; rw [if_pos e_] at hf
      exact nd_C.room (tX7_given l w hfl F d (by rw [e_]; rfl) k_p0 hf) (by omega) (by omega)
    · rw [if_neg (by omega)] at hf; rw [if_neg (by omega)] at hf; rw [if_neg (by omega)] at hf; rw [if_neg (by omega)] at hf; rw [if_pos e_] at hf
      exact nd_C.room (tX7_given l w hfl F d (by rw [e_]; rfl) k_p0 hf) (by omega) (by omega)
    · rw [if_neg (by omega)] at hf; rw [if_neg (by omega)] at hf; rw [if_neg (by omega)] at hf; rw [if_neg (by omega)] at hf; rw [if_neg (by omega)] at hf; rw [if_pos e_] at hf
      exact nd_C.room (tX16_given l w hfl F d (v_given F d) (ih) e_ k_p0 hf) (by omega) (by omega)
def fX11_add_40 (F d : Nat) (this : Nat) (x1 : Nat) (x2 : Int32) (x4 : Int32) (s0 : Option Nat) (h : Hp) : Option (Int32 × Hp) :=
  oc s0
  (if x4 = 0 then
  (nn (gP h 1100 this) fun a4 => (
  ck (inb x2 (nd_Ln a4)) (
  if (gA h a4 (Int32.toNatClampNeg x2)) = 1 then
  (some (1, h))
  else
  (some (0, h)))))
  else
  (some (0, h)))
  (fun a1 =>
  cv (fX17_add F d x1 a1 x2 h) fun h7 => (
  bn (sI h7 1701 x1 ((gI h7 1701 x1) + 1)) fun h9 => (
  some (1, h9))))
def fX11_add (F d : Nat) (this : Nat) (p0 : Nat) (p1 : Int32) (p2 : Option Nat) (p3 : Int32) (p4 : Nat) (h : Hp) : Option (Int32 × Hp) :=
  if p3 = 0 then
  (nn (gP h 1100 this) fun a3 => (
  ck (inb p1 (nd_Ln a3)) (
  if (gA h a3 (Int32.toNatClampNeg p1)) = 2 then
  (nn (gP h 1000 this) fun a7 => (
  ck (inb p1 (nd_Ln a7)) (
  bn (gR h a7 (Int32.toNatClampNeg p1)) fun o10 => (
  nn (gP h 1101 this) fun a12 => (
  ck (inb p1 (nd_Ln a12)) (
  nn o10 fun a14 => (
  ca (v_given F d a14 p4 (gA h a12 (Int32.toNatClampNeg p1)) h) fun v16 h15 => (
  fX11_add_40 F d this p0 p1 p3 v16 h15))))))))
  else
  (fX11_add_40 F d this p0 p1 p3 none h))))
  else
  (fX11_add_40 F d this p0 p1 p3 p2 h)
set_option maxHeartbeats 4000000 in
theorem tX11_add_40 (l : Launch) (w : Wd) (hfl : l.stackTraces = false) (F d : Nat) (r : Int32 × Hp) (this : Nat) (x1 : Nat) (x2 : Int32) (x4 : Int32) (s0 : Option Nat) (k_this : nd_Kd this = 7) (k_x1 : nd_Kd x1 = 13) (ok_s0 : ∀ b, s0 = some b → [13].contains (nd_Kd b) = true) (h : Hp) (hf : fX11_add_40 F d this x1 x2 x4 s0 h = some r) : nd_V l w yX11_add cX11_add 7 (some .boolean) (2 + 8 * d) (52 + 400 * d) (.inl (some (vi r.1)), r.2) h 40 [(0, vr (some this)), (1, vr (some x1)), (2, vi x2), (4, vi x4)] [vr s0] := by
  unfold fX11_add_40 at hf
  refine nd_astore [(6, vr s0), (0, vr (some this)), (1, vr (some x1)), (2, vi x2), (4, vi x4)] dX11_add_40 (Nat.le_of_ble_eq_true rfl) rfl ?_
  refine nd_aload (j := 0) dX11_add_42 rfl ?_
  refine nd_ifnonnull (tgt := 68) dX11_add_44 (by decide) (fun e_a1 => ?_) (fun a1 e_a1 => ?_)
  · replace hf := ocN e_a1 hf
    subst e_a1
    refine nd_iload (j := 4) dX11_add_47 rfl ?_
    refine nd_if_ne (tgt := 66) dX11_add_49 (by decide) (fun c2 => ?_) (fun c2 => ?_)
    · replace hf := ifn c2 hf
      refine nd_iconst (v := 0) dX11_add_66 (by decide) ?_
      cases hf
      exact nd_zret (v := 0) (by decide) dX11_add_67
    · replace hf := ifp c2 hf
      refine nd_aload_n (j := 1) dX11_add_52 rfl rfl ?_
      refine nd_getP (k := 2) dX11_add_53 k_this rfl (Nat.le_of_ble_eq_true rfl) (nd_flO q475) rfl (fun ok3 => ?_)
      replace hf := nnE hf
      obtain ⟨a4, e_a4, hf⟩ := hf
      refine nd_topr e_a4.symm ?_
      have k_a4 : nd_Kd a4 = 20 := nd_c1 (ok3 a4 e_a4)
      refine nd_iload_n (j := 3) dX11_add_56 rfl rfl ?_
      replace hf := ckE hf
      obtain ⟨c5, hf⟩ := hf
      refine nd_iald dX11_add_57 k_a4 c5 ?_
      refine nd_iconst (v := 1) dX11_add_58 (by decide) ?_
      refine nd_icmp_ne (tgt := 66) dX11_add_59 (by decide) (fun c6 => ?_) (fun c6 => ?_)
      · replace hf := ifn c6 hf
        refine nd_iconst (v := 0) dX11_add_66 (by decide) ?_
        cases hf
        exact nd_zret (v := 0) (by decide) dX11_add_67
      · replace hf := ifp c6 hf
        refine nd_iconst (v := 1) dX11_add_62 (by decide) ?_
        refine nd_goto (tgt := 67) dX11_add_63 (by decide) ?_
        cases hf
        exact nd_zret (v := 1) (by decide) dX11_add_67
  · replace hf := ocS e_a1 hf
    have k_a1 : nd_Kd a1 = 13 := nd_c1 (ok_s0 a1 e_a1)
    subst e_a1
    refine nd_aload_n (j := 2) dX11_add_68 rfl rfl ?_
    refine nd_aload (j := 0) dX11_add_69 rfl ?_
    refine nd_iload_n (j := 3) dX11_add_71 rfl rfl ?_
    replace hf := cvE hf
    obtain ⟨h7, e_h7, hf⟩ := hf
    refine nd_Vv [] (tX17_add l w hfl F d k_x1 k_a1 e_h7) rfl dX11_add_72 mw_X17_add (Or.inl q1030) k_x1 rfl q1010 q1011 (by omega) (by omega) (Nat.le_of_ble_eq_true rfl) ?_
    refine nd_aload_n (j := 2) dX11_add_75 rfl rfl ?_
    refine nd_dup dX11_add_76 rfl ?_
    refine nd_getI (k := 1) dX11_add_77 k_x1 rfl (Nat.le_of_ble_eq_true rfl) (nd_flN q910) rfl ?_
    refine nd_iconst (v := 1) dX11_add_80 (by decide) ?_
    refine nd_iadd dX11_add_81 ?_
    refine nd_putN (k := 1) dX11_add_82 k_x1 rfl (Nat.le_of_ble_eq_true rfl) (nd_flN q910) rfl rfl rfl ?_
    replace hf := bnE hf
    obtain ⟨h9, e_h9, hf⟩ := hf
    refine nd_hp e_h9 ?_
    refine nd_iconst (v := 1) dX11_add_85 (by decide) ?_
    cases hf
    exact nd_zret (v := 1) (by decide) dX11_add_86
set_option maxHeartbeats 4000000 in
theorem tX11_add (l : Launch) (w : Wd) (hfl : l.stackTraces = false) (F d : Nat) {this : Nat} {p0 : Nat} {p1 : Int32} {p2 : Option Nat} {p3 : Int32} {p4 : Nat} (k_this : nd_Kd this = 7) (k_p0 : nd_Kd p0 = 13) (ok_p2 : ∀ b, p2 = some b → [13].contains (nd_Kd b) = true) (k_p4 : nd_Kd p4 = 2) {h : Hp} {r : Int32 × Hp} (hf : fX11_add F d this p0 p1 p2 p3 p4 h = some r) : nd_C l w yX11_add cX11_add 7 (some .boolean) (2 + 8 * d) (52 + 400 * d) [vr (some this), vr (some p0), vi p1, vr p2, vi p3, vr (some p4)] h (.inl (some (vi r.1)), r.2) := by
  refine nd_start (as := [vr (some this), vr (some p0), vi p1, vr p2, vi p3, vr (some p4)]) hfl (by decide) (Nat.le_of_ble_eq_true rfl) ?_
  unfold fX11_add at hf
  refine nd_eqL (L' := [(0, vr (some this)), (1, vr (some p0)), (2, vi p1), (3, vr p2), (4, vi p3), (5, vr (some p4))]) rfl ?_
  refine nd_iload (j := 4) dX11_add_0 rfl ?_
  refine nd_if_eq (tgt := 9) dX11_add_2 (by decide) (fun c1 => ?_) (fun c1 => ?_)
  · replace hf := ifp c1 hf
    refine nd_aload_n (j := 0) dX11_add_9 rfl rfl ?_
    refine nd_getP (k := 2) dX11_add_10 k_this rfl (Nat.le_of_ble_eq_true rfl) (nd_flO q475) rfl (fun ok2 => ?_)
    replace hf := nnE hf
    obtain ⟨a3, e_a3, hf⟩ := hf
    refine nd_topr e_a3.symm ?_
    have k_a3 : nd_Kd a3 = 20 := nd_c1 (ok2 a3 e_a3)
    refine nd_iload_n (j := 2) dX11_add_13 rfl rfl ?_
    replace hf := ckE hf
    obtain ⟨c4, hf⟩ := hf
    refine nd_iald dX11_add_14 k_a3 c4 ?_
    refine nd_iconst (v := 2) dX11_add_15 (by decide) ?_
    refine nd_icmp_ne (tgt := 39) dX11_add_16 (by decide) (fun c5 => ?_) (fun c5 => ?_)
    · replace hf := ifn c5 hf
      refine nd_null dX11_add_39 ?_
      exact nd_loc [0, 1, 2, 4] rfl (tX11_add_40 l w hfl F d r _ _ _ _ _ k_this k_p0 (fun b e => by cases e) _ hf)
    · replace hf := ifp c5 hf
      refine nd_aload_n (j := 0) dX11_add_19 rfl rfl ?_
      refine nd_getP (k := 0) dX11_add_20 k_this rfl (Nat.le_of_ble_eq_true rfl) (nd_flS q482 q483) rfl (fun ok6 => ?_)
      replace hf := nnE hf
      obtain ⟨a7, e_a7, hf⟩ := hf
      refine nd_topr e_a7.symm ?_
      have k_a7 : nd_Kd a7 = 24 := nd_c1 (ok6 a7 e_a7)
      refine nd_iload_n (j := 2) dX11_add_23 rfl rfl ?_
      replace hf := ckE hf
      obtain ⟨c8, hf⟩ := hf
      refine nd_aald (t := 4) (C := "NotationDesk$Type") dX11_add_24 k_a7 (by decide) (fun _ => rfl) c8 (fun ok9 => ?_)
      replace hf := bnE hf
      obtain ⟨o10, e_o10, hf⟩ := hf
      refine nd_topr e_o10 ?_
      have ok_o10 : ∀ b, o10 = some b → [6, 7, 8, 9, 11, 12].contains (nd_Kd b) = true := fun b q => ok9 b (e_o10 ▸ q)
      refine nd_aload (j := 5) dX11_add_25 rfl ?_
      refine nd_aload_n (j := 0) dX11_add_27 rfl rfl ?_
      refine nd_getP (k := 3) dX11_add_28 k_this rfl (Nat.le_of_ble_eq_true rfl) (nd_flO q477) rfl (fun ok11 => ?_)
      replace hf := nnE hf
      obtain ⟨a12, e_a12, hf⟩ := hf
      refine nd_topr e_a12.symm ?_
      have k_a12 : nd_Kd a12 = 20 := nd_c1 (ok11 a12 e_a12)
      refine nd_iload_n (j := 2) dX11_add_31 rfl rfl ?_
      replace hf := ckE hf
      obtain ⟨c13, hf⟩ := hf
      refine nd_iald dX11_add_32 k_a12 c13 ?_
      replace hf := nnE hf
      obtain ⟨a14, e_a14, hf⟩ := hf
      have k_a14 : [6, 7, 8, 9, 11, 12].contains (nd_Kd a14) = true := ok_o10 a14 e_a14
      subst e_a14
      replace hf := caE hf
      obtain ⟨v16, h15, e_h15, hf⟩ := hf
      refine nd_v_given [] (tv_given l w hfl F d k_a14 k_p4 e_h15) rfl dX11_add_33 q1017 k_a14 (by omega) (by omega) (Nat.le_of_ble_eq_true rfl) (fun ok17 => ?_)
      have ok_v16 : ∀ b, v16 = some b → [13].contains (nd_Kd b) = true := fun b q => okT13 (ok17 b q)
      refine nd_goto (tgt := 40) dX11_add_36 (by decide) ?_
      exact nd_loc [0, 1, 2, 4] rfl (tX11_add_40 l w hfl F d r _ _ _ _ _ k_this k_p0 ok_v16 _ hf)
  · replace hf := ifn c1 hf
    refine nd_aload_n (j := 3) dX11_add_5 rfl rfl ?_
    refine nd_goto (tgt := 40) dX11_add_6 (by decide) ?_
    exact nd_loc [0, 1, 2, 4] rfl (tX11_add_40 l w hfl F d r _ _ _ _ _ k_this k_p0 ok_p2 _ hf)
def fX11_isWritten (F d : Nat) (this : Nat) (p0 : Nat) (p1 : Int32) (h : Hp) : Option (Int32 × Hp) :=
  ca (fX17_component F d p0 p1 h) fun v2 h1 => (
  oc v2
  (some (0, h1))
  (fun a4 =>
  nn (gP h1 1100 this) fun a6 => (
  ck (inb p1 (nd_Ln a6)) (
  if (gA h1 a6 (Int32.toNatClampNeg p1)) = 2 then
  (nn (gP h1 1101 this) fun a10 => (
  ck (inb p1 (nd_Ln a10)) (
  if (gI h1 1701 a4) = (gA h1 a10 (Int32.toNatClampNeg p1)) then
  (some (0, h1))
  else
  (some (1, h1)))))
  else
  (some (1, h1))))))
set_option maxHeartbeats 4000000 in
theorem tX11_isWritten (l : Launch) (w : Wd) (hfl : l.stackTraces = false) (F d : Nat) {this : Nat} {p0 : Nat} {p1 : Int32} (k_this : nd_Kd this = 7) (k_p0 : nd_Kd p0 = 13) {h : Hp} {r : Int32 × Hp} (hf : fX11_isWritten F d this p0 p1 h = some r) : nd_C l w yX11_isWritten cX11_isWritten 4 (some .boolean) 1 22 [vr (some this), vr (some p0), vi p1] h (.inl (some (vi r.1)), r.2) := by
  refine nd_start (as := [vr (some this), vr (some p0), vi p1]) hfl (by decide) (Nat.le_of_ble_eq_true rfl) ?_
  unfold fX11_isWritten at hf
  refine nd_eqL (L' := [(0, vr (some this)), (1, vr (some p0)), (2, vi p1)]) rfl ?_
  refine nd_aload_n (j := 1) dX11_isWritten_0 rfl rfl ?_
  refine nd_iload_n (j := 2) dX11_isWritten_1 rfl rfl ?_
  replace hf := caE hf
  obtain ⟨v2, h1, e_h1, hf⟩ := hf
  refine nd_Vr [] (tX17_component l w hfl F d k_p0 e_h1) rfl dX11_isWritten_2 mw_X17_component (Or.inl q1169) k_p0 rfl q1170 q1171 (by omega) (by omega) (Nat.le_of_ble_eq_true rfl) (fun ok3 => ?_)
  have ok_v2 : ∀ b, v2 = some b → [13].contains (nd_Kd b) = true := fun b q => okT13 (ok3 b q)
  refine nd_astore_n [(3, vr v2), (0, vr (some this)), (1, vr (some p0)), (2, vi p1)] dX11_isWritten_5 rfl (Nat.le_of_ble_eq_true rfl) rfl ?_
  refine nd_aload_n (j := 0) dX11_isWritten_6 rfl rfl ?_
  refine nd_ifnull (tgt := 37) dX11_isWritten_7 (by decide) (fun e_a4 => ?_) (fun a4 e_a4 => ?_)
  · replace hf := ocN e_a4 hf
    subst e_a4
    refine nd_iconst (v := 0) dX11_isWritten_37 (by decide) ?_
    cases hf
    exact nd_zret (v := 0) (by decide) dX11_isWritten_38
  · replace hf := ocS e_a4 hf
    have k_a4 : nd_Kd a4 = 13 := nd_c1 (ok_v2 a4 e_a4)
    subst e_a4
    refine nd_aload_n (j := 1) dX11_isWritten_10 rfl rfl ?_
    refine nd_getP (k := 2) dX11_isWritten_11 k_this rfl (Nat.le_of_ble_eq_true rfl) (nd_flO q475) rfl (fun ok5 => ?_)
    replace hf := nnE hf
    obtain ⟨a6, e_a6, hf⟩ := hf
    refine nd_topr e_a6.symm ?_
    have k_a6 : nd_Kd a6 = 20 := nd_c1 (ok5 a6 e_a6)
    refine nd_iload_n (j := 3) dX11_isWritten_14 rfl rfl ?_
    replace hf := ckE hf
    obtain ⟨c7, hf⟩ := hf
    refine nd_iald dX11_isWritten_15 k_a6 c7 ?_
    refine nd_iconst (v := 2) dX11_isWritten_16 (by decide) ?_
    refine nd_icmp_ne (tgt := 33) dX11_isWritten_17 (by decide) (fun c8 => ?_) (fun c8 => ?_)
    · replace hf := ifn c8 hf
      refine nd_iconst (v := 1) dX11_isWritten_33 (by decide) ?_
      refine nd_goto (tgt := 38) dX11_isWritten_34 (by decide) ?_
      cases hf
      exact nd_zret (v := 1) (by decide) dX11_isWritten_38
    · replace hf := ifp c8 hf
      refine nd_aload_n (j := 0) dX11_isWritten_20 rfl rfl ?_
      refine nd_getI (k := 1) dX11_isWritten_21 k_a4 rfl (Nat.le_of_ble_eq_true rfl) (nd_flN q910) rfl ?_
      refine nd_aload_n (j := 1) dX11_isWritten_24 rfl rfl ?_
      refine nd_getP (k := 3) dX11_isWritten_25 k_this rfl (Nat.le_of_ble_eq_true rfl) (nd_flO q477) rfl (fun ok9 => ?_)
      replace hf := nnE hf
      obtain ⟨a10, e_a10, hf⟩ := hf
      refine nd_topr e_a10.symm ?_
      have k_a10 : nd_Kd a10 = 20 := nd_c1 (ok9 a10 e_a10)
      refine nd_iload_n (j := 3) dX11_isWritten_28 rfl rfl ?_
      replace hf := ckE hf
      obtain ⟨c11, hf⟩ := hf
      refine nd_iald dX11_isWritten_29 k_a10 c11 ?_
      refine nd_icmp_eq (tgt := 37) dX11_isWritten_30 (by decide) (fun c12 => ?_) (fun c12 => ?_)
      · replace hf := ifp c12 hf
        refine nd_iconst (v := 0) dX11_isWritten_37 (by decide) ?_
        cases hf
        exact nd_zret (v := 0) (by decide) dX11_isWritten_38
      · replace hf := ifn c12 hf
        refine nd_iconst (v := 1) dX11_isWritten_33 (by decide) ?_
        refine nd_goto (tgt := 38) dX11_isWritten_34 (by decide) ?_
        cases hf
        exact nd_zret (v := 1) (by decide) dX11_isWritten_38
def fX11_content_40 (F d : Nat) (R_size : Nat → Nat → Hp → Option (Int32 × Hp)) (k_4 : Nat → Nat → Int32 → Int32 → Hp → Option (Int32 × Hp)) (this : Nat) (x1 : Nat) (x3 : Int32) (s0 : Int32) (s1 : Int32) (h : Hp) : Option (Int32 × Hp) :=
  bn (s0 + s1) fun v1 => (
  bn (x3 + 1) fun v2 => (
  k_4 this x1 v1 v2 h))
def fX11_content_4 (F d : Nat) (R_size : Nat → Nat → Hp → Option (Int32 × Hp)) : Nat → Nat → Nat → Int32 → Int32 → Hp → Option (Int32 × Hp)
  | 0, _, _, _, _, _ => none
  | n + 1, this, x1, x2, x3, h =>
    if (gI h 1001 this) ≤ x3 then
    (some (x2, h))
    else
    (ca (fX11_isWritten F d this x1 x3 h) fun v3 h2 => (
    if v3 = 0 then
    (fX11_content_40 F d R_size (fX11_content_4 F d R_size n) this x1 x3 x2 0 h2)
    else
    (nn (gP h2 1000 this) fun a6 => (
    ck (inb x3 (nd_Ln a6)) (
    bn (gR h2 a6 (Int32.toNatClampNeg x3)) fun o9 => (
    ca (fX17_component F d x1 x3 h2) fun v11 h10 => (
    nn o9 fun a13 => (
    nn v11 fun a14 => (
    ca (R_size a13 a14 h10) fun v16 h15 => (
    fX11_content_40 F d R_size (fX11_content_4 F d R_size n) this x1 x3 x2 v16 h15))))))))))
def fX11_content (F d : Nat) (R_size : Nat → Nat → Hp → Option (Int32 × Hp)) (this : Nat) (p0 : Nat) (h : Hp) : Option (Int32 × Hp) :=
  fX11_content_4 F d R_size F this p0 0 0 h
set_option maxHeartbeats 4000000 in
theorem tX11_content_40 (l : Launch) (w : Wd) (hfl : l.stackTraces = false) (F d : Nat) (R_size : Nat → Nat → Hp → Option (Int32 × Hp)) (hR_size : ∀ {b : Nat} {p0 : Nat} (k_b : [6, 7, 8, 9, 11, 12].contains (nd_Kd b) = true) (k_p0 : nd_Kd p0 = 13) {h : Hp} {r : Int32 × Hp}, R_size b p0 h = some r → nc_size l w b (1 + 8 * d) (30 + 400 * d) [vr (some b), vr (some p0)] h (.inl (some (vi r.1)), r.2)) (r : Int32 × Hp) (k_4 : Nat → Nat → Int32 → Int32 → Hp → Option (Int32 × Hp)) (hk_4 : ∀ (this : Nat) (x1 : Nat) (x2 : Int32) (x3 : Int32) (k_this : nd_Kd this = 7) (k_x1 : nd_Kd x1 = 13) (h : Hp), k_4 this x1 x2 x3 h = some r → nd_V l w yX11_content cX11_content 4 (some .int) (2 + 8 * d) (51 + 400 * d) (.inl (some (vi r.1)), r.2) h 4 [(0, vr (some this)), (1, vr (some x1)), (2, vi x2), (3, vi x3)] []) (this : Nat) (x1 : Nat) (x3 : Int32) (s0 : Int32) (s1 : Int32) (k_this : nd_Kd this = 7) (k_x1 : nd_Kd x1 = 13) (h : Hp) (hf : fX11_content_40 F d R_size k_4 this x1 x3 s0 s1 h = some r) : nd_V l w yX11_content cX11_content 4 (some .int) (2 + 8 * d) (51 + 400 * d) (.inl (some (vi r.1)), r.2) h 40 [(0, vr (some this)), (1, vr (some x1)), (3, vi x3)] [vi s1, vi s0] := by
  unfold fX11_content_40 at hf
  refine nd_iadd dX11_content_40 ?_
  replace hf := bnE hf
  obtain ⟨v1, e_v1, hf⟩ := hf
  refine nd_top e_v1 ?_
  refine nd_istore_n [(2, vi v1), (0, vr (some this)), (1, vr (some x1)), (3, vi x3)] dX11_content_41 rfl (Nat.le_of_ble_eq_true rfl) rfl ?_
  replace hf := bnE hf
  obtain ⟨v2, e_v2, hf⟩ := hf
  refine nd_iinc (v := v2) (j := 3) [(3, vi v2), (2, vi v1), (0, vr (some this)), (1, vr (some x1))] dX11_content_42 rfl (by rw [e_v2]; rfl) (Nat.le_of_ble_eq_true rfl) rfl ?_
  refine nd_goto (tgt := 4) dX11_content_45 (by decide) ?_
  exact nd_loc [2, 3, 1, 0] rfl (hk_4 _ _ _ _ k_this k_x1 _ hf)
set_option maxHeartbeats 4000000 in
theorem tX11_content_4 (l : Launch) (w : Wd) (hfl : l.stackTraces = false) (F d : Nat) (R_size : Nat → Nat → Hp → Option (Int32 × Hp)) (hR_size : ∀ {b : Nat} {p0 : Nat} (k_b : [6, 7, 8, 9, 11, 12].contains (nd_Kd b) = true) (k_p0 : nd_Kd p0 = 13) {h : Hp} {r : Int32 × Hp}, R_size b p0 h = some r → nc_size l w b (1 + 8 * d) (30 + 400 * d) [vr (some b), vr (some p0)] h (.inl (some (vi r.1)), r.2)) (r : Int32 × Hp) : ∀ (n : Nat) (this : Nat) (x1 : Nat) (x2 : Int32) (x3 : Int32) (k_this : nd_Kd this = 7) (k_x1 : nd_Kd x1 = 13) (h : Hp), fX11_content_4 F d R_size n this x1 x2 x3 h = some r → nd_V l w yX11_content cX11_content 4 (some .int) (2 + 8 * d) (51 + 400 * d) (.inl (some (vi r.1)), r.2) h 4 [(0, vr (some this)), (1, vr (some x1)), (2, vi x2), (3, vi x3)] [] := by
  intro n
  induction n with
  | zero => intro _ _ _ _ _ _ _ hf; cases hf
  | succ n ih =>
    intro this x1 x2 x3 k_this k_x1 h hf
    unfold fX11_content_4 at hf
    refine nd_iload_n (j := 3) dX11_content_4 rfl rfl ?_
    refine nd_aload_n (j := 0) dX11_content_5 rfl rfl ?_
    refine nd_getI (k := 1) dX11_content_6 k_this rfl (Nat.le_of_ble_eq_true rfl) (nd_flS q487 q488) rfl ?_
    refine nd_icmp_ge (tgt := 48) dX11_content_9 (by decide) (fun c1 => ?_) (fun c1 => ?_)
    · replace hf := ifp c1 hf
      refine nd_iload_n (j := 2) dX11_content_48 rfl rfl ?_
      cases hf
      exact nd_iret (v := x2) dX11_content_49
    · replace hf := ifn c1 hf
      refine nd_iload_n (j := 2) dX11_content_12 rfl rfl ?_
      refine nd_aload_n (j := 0) dX11_content_13 rfl rfl ?_
      refine nd_aload_n (j := 1) dX11_content_14 rfl rfl ?_
      refine nd_iload_n (j := 3) dX11_content_15 rfl rfl ?_
      replace hf := caE hf
      obtain ⟨v3, h2, e_h2, hf⟩ := hf
      refine nd_Vi [vi x2] (tX11_isWritten l w hfl F d k_this k_x1 e_h2) rfl dX11_content_16 mw_X11_isWritten (Or.inl q1165) k_this rfl q1167 qs24 (by omega) (by omega) (Nat.le_of_ble_eq_true rfl) ?_
      refine nd_if_eq (tgt := 39) dX11_content_19 (by decide) (fun c4 => ?_) (fun c4 => ?_)
      · replace hf := ifp c4 hf
        refine nd_iconst (v := 0) dX11_content_39 (by decide) ?_
        exact nd_loc [0, 1, 3] rfl (tX11_content_40 l w hfl F d R_size hR_size r (fX11_content_4 F d R_size n) ih _ _ _ _ _ k_this k_x1 _ hf)
      · replace hf := ifn c4 hf
        refine nd_aload_n (j := 0) dX11_content_22 rfl rfl ?_
        refine nd_getP (k := 0) dX11_content_23 k_this rfl (Nat.le_of_ble_eq_true rfl) (nd_flS q482 q483) rfl (fun ok5 => ?_)
        replace hf := nnE hf
        obtain ⟨a6, e_a6, hf⟩ := hf
        refine nd_topr e_a6.symm ?_
        have k_a6 : nd_Kd a6 = 24 := nd_c1 (ok5 a6 e_a6)
        refine nd_iload_n (j := 3) dX11_content_26 rfl rfl ?_
        replace hf := ckE hf
        obtain ⟨c7, hf⟩ := hf
        refine nd_aald (t := 4) (C := "NotationDesk$Type") dX11_content_27 k_a6 (by decide) (fun _ => rfl) c7 (fun ok8 => ?_)
        replace hf := bnE hf
        obtain ⟨o9, e_o9, hf⟩ := hf
        refine nd_topr e_o9 ?_
        have ok_o9 : ∀ b, o9 = some b → [6, 7, 8, 9, 11, 12].contains (nd_Kd b) = true := fun b q => ok8 b (e_o9 ▸ q)
        refine nd_aload_n (j := 1) dX11_content_28 rfl rfl ?_
        refine nd_iload_n (j := 3) dX11_content_29 rfl rfl ?_
        replace hf := caE hf
        obtain ⟨v11, h10, e_h10, hf⟩ := hf
        refine nd_Vr [vr o9, vi x2] (tX17_component l w hfl F d k_x1 e_h10) rfl dX11_content_30 mw_X17_component (Or.inl q1169) k_x1 rfl q1170 q1171 (by omega) (by omega) (Nat.le_of_ble_eq_true rfl) (fun ok12 => ?_)
        have ok_v11 : ∀ b, v11 = some b → [13].contains (nd_Kd b) = true := fun b q => okT13 (ok12 b q)
        replace hf := nnE hf
        obtain ⟨a13, e_a13, hf⟩ := hf
        have k_a13 : [6, 7, 8, 9, 11, 12].contains (nd_Kd a13) = true := ok_o9 a13 e_a13
        subst e_a13
        replace hf := nnE hf
        obtain ⟨a14, e_a14, hf⟩ := hf
        have k_a14 : nd_Kd a14 = 13 := nd_c1 (ok_v11 a14 e_a14)
        subst e_a14
        replace hf := caE hf
        obtain ⟨v16, h15, e_h15, hf⟩ := hf
        refine nd_v_size [vi x2] (hR_size k_a13 k_a14 e_h15) rfl dX11_content_33 q1173 k_a13 (by omega) (by omega) (Nat.le_of_ble_eq_true rfl) ?_
        refine nd_goto (tgt := 40) dX11_content_36 (by decide) ?_
        exact nd_loc [0, 1, 3] rfl (tX11_content_40 l w hfl F d R_size hR_size r (fX11_content_4 F d R_size n) ih _ _ _ _ _ k_this k_x1 _ hf)
set_option maxHeartbeats 4000000 in
theorem tX11_content (l : Launch) (w : Wd) (hfl : l.stackTraces = false) (F d : Nat) (R_size : Nat → Nat → Hp → Option (Int32 × Hp)) (hR_size : ∀ {b : Nat} {p0 : Nat} (k_b : [6, 7, 8, 9, 11, 12].contains (nd_Kd b) = true) (k_p0 : nd_Kd p0 = 13) {h : Hp} {r : Int32 × Hp}, R_size b p0 h = some r → nc_size l w b (1 + 8 * d) (30 + 400 * d) [vr (some b), vr (some p0)] h (.inl (some (vi r.1)), r.2)) {this : Nat} {p0 : Nat} (k_this : nd_Kd this = 7) (k_p0 : nd_Kd p0 = 13) {h : Hp} {r : Int32 × Hp} (hf : fX11_content F d R_size this p0 h = some r) : nd_C l w yX11_content cX11_content 4 (some .int) (2 + 8 * d) (51 + 400 * d) [vr (some this), vr (some p0)] h (.inl (some (vi r.1)), r.2) := by
  refine nd_start (as := [vr (some this), vr (some p0)]) hfl (by decide) (Nat.le_of_ble_eq_true rfl) ?_
  unfold fX11_content at hf
  refine nd_eqL (L' := [(0, vr (some this)), (1, vr (some p0))]) rfl ?_
  refine nd_iconst (v := 0) dX11_content_0 (by decide) ?_
  refine nd_istore_n [(2, vi 0), (0, vr (some this)), (1, vr (some p0))] dX11_content_1 rfl (Nat.le_of_ble_eq_true rfl) rfl ?_
  refine nd_iconst (v := 0) dX11_content_2 (by decide) ?_
  refine nd_istore_n [(3, vi 0), (2, vi 0), (0, vr (some this)), (1, vr (some p0))] dX11_content_3 rfl (Nat.le_of_ble_eq_true rfl) rfl ?_
  exact nd_loc [2, 3, 1, 0] rfl (tX11_content_4 l w hfl F d R_size hR_size r F _ _ _ _ k_this k_p0 _ hf)
def fX11_pack_78 (F d : Nat) (R_pack : Nat → Nat → Nat → Hp → Option (Hp)) (k_46 : Nat → Nat → Nat → Int32 → Hp → Option (Hp)) (this : Nat) (x1 : Nat) (x2 : Nat) (x3 : Int32) (h : Hp) : Option (Hp) :=
  bn (x3 + 1) fun v1 => (
  k_46 this x1 x2 v1 h)
def fX11_pack_46 (F d : Nat) (R_pack : Nat → Nat → Nat → Hp → Option (Hp)) : Nat → Nat → Nat → Nat → Int32 → Hp → Option (Hp)
  | 0, _, _, _, _, _ => none
  | n + 1, this, x1, x2, x3, h =>
    if (gI h 1001 this) ≤ x3 then
    (some h)
    else
    (ca (fX11_isWritten F d this x1 x3 h) fun v3 h2 => (
    if v3 = 0 then
    (fX11_pack_78 F d R_pack (fX11_pack_46 F d R_pack n) this x1 x2 x3 h2)
    else
    (nn (gP h2 1000 this) fun a6 => (
    ck (inb x3 (nd_Ln a6)) (
    bn (gR h2 a6 (Int32.toNatClampNeg x3)) fun o9 => (
    ca (fX17_component F d x1 x3 h2) fun v11 h10 => (
    nn o9 fun a13 => (
    nn v11 fun a14 => (
    cv (R_pack a13 a14 x2 h10) fun h15 => (
    fX11_pack_78 F d R_pack (fX11_pack_46 F d R_pack n) this x1 x2 x3 h15))))))))))
def fX11_pack_38 (F d : Nat) (R_pack : Nat → Nat → Nat → Hp → Option (Hp)) (k_2 : Nat → Nat → Nat → Int32 → Hp → Option (Hp)) (this : Nat) (x1 : Nat) (x2 : Nat) (x3 : Int32) (h : Hp) : Option (Hp) :=
  bn (x3 + 1) fun v1 => (
  k_2 this x1 x2 v1 h)
def fX11_pack_34 (F d : Nat) (R_pack : Nat → Nat → Nat → Hp → Option (Hp)) (k_2 : Nat → Nat → Nat → Int32 → Hp → Option (Hp)) (this : Nat) (x1 : Nat) (x2 : Nat) (x3 : Int32) (s0 : Nat) (s1 : Int32) (h : Hp) : Option (Hp) :=
  cv (fX5_put F d s0 s1 1 h) fun h1 => (
  fX11_pack_38 F d R_pack k_2 this x1 x2 x3 h1)
def fX11_pack_2 (F d : Nat) (R_pack : Nat → Nat → Nat → Hp → Option (Hp)) : Nat → Nat → Nat → Nat → Int32 → Hp → Option (Hp)
  | 0, _, _, _, _, _ => none
  | n + 1, this, x1, x2, x3, h =>
    if (gI h 1001 this) ≤ x3 then
    (fX11_pack_46 F d R_pack F this x1 x2 0 h)
    else
    (nn (gP h 1100 this) fun a3 => (
    ck (inb x3 (nd_Ln a3)) (
    if (gA h a3 (Int32.toNatClampNeg x3)) = 0 then
    (fX11_pack_38 F d R_pack (fX11_pack_2 F d R_pack n) this x1 x2 x3 h)
    else
    (ca (fX11_isWritten F d this x1 x3 h) fun v7 h6 => (
    if v7 = 0 then
    (fX11_pack_34 F d R_pack (fX11_pack_2 F d R_pack n) this x1 x2 x3 x2 0 h6)
    else
    (fX11_pack_34 F d R_pack (fX11_pack_2 F d R_pack n) this x1 x2 x3 x2 1 h6))))))
def fX11_pack (F d : Nat) (R_pack : Nat → Nat → Nat → Hp → Option (Hp)) (this : Nat) (p0 : Nat) (p1 : Nat) (h : Hp) : Option (Hp) :=
  fX11_pack_2 F d R_pack F this p0 p1 0 h
set_option maxHeartbeats 4000000 in
theorem tX11_pack_78 (l : Launch) (w : Wd) (hfl : l.stackTraces = false) (F d : Nat) (R_pack : Nat → Nat → Nat → Hp → Option (Hp)) (hR_pack : ∀ {b : Nat} {p0 : Nat} {p1 : Nat} (k_b : [6, 7, 8, 9, 11, 12].contains (nd_Kd b) = true) (k_p0 : nd_Kd p0 = 13) (k_p1 : nd_Kd p1 = 4) {h : Hp} {r : Hp}, R_pack b p0 p1 h = some r → nc_pack l w b (1 + 8 * d) (30 + 400 * d) [vr (some b), vr (some p0), vr (some p1)] h (.inl none, r)) (r : Hp) (k_46 : Nat → Nat → Nat → Int32 → Hp → Option (Hp)) (hk_46 : ∀ (this : Nat) (x1 : Nat) (x2 : Nat) (x3 : Int32) (k_this : nd_Kd this = 7) (k_x1 : nd_Kd x1 = 13) (k_x2 : nd_Kd x2 = 4) (h : Hp), k_46 this x1 x2 x3 h = some r → nd_V l w yX11_pack cX11_pack 4 none (2 + 8 * d) (53 + 400 * d) (.inl none, r) h 46 [(0, vr (some this)), (1, vr (some x1)), (2, vr (some x2)), (3, vi x3)] []) (this : Nat) (x1 : Nat) (x2 : Nat) (x3 : Int32) (k_this : nd_Kd this = 7) (k_x1 : nd_Kd x1 = 13) (k_x2 : nd_Kd x2 = 4) (h : Hp) (hf : fX11_pack_78 F d R_pack k_46 this x1 x2 x3 h = some r) : nd_V l w yX11_pack cX11_pack 4 none (2 + 8 * d) (53 + 400 * d) (.inl none, r) h 78 [(0, vr (some this)), (1, vr (some x1)), (2, vr (some x2)), (3, vi x3)] [] := by
  unfold fX11_pack_78 at hf
  replace hf := bnE hf
  obtain ⟨v1, e_v1, hf⟩ := hf
  refine nd_iinc (v := v1) (j := 3) [(3, vi v1), (0, vr (some this)), (1, vr (some x1)), (2, vr (some x2))] dX11_pack_78 rfl (by rw [e_v1]; rfl) (Nat.le_of_ble_eq_true rfl) rfl ?_
  refine nd_goto (tgt := 46) dX11_pack_81 (by decide) ?_
  exact nd_loc [1, 2, 3, 0] rfl (hk_46 _ _ _ _ k_this k_x1 k_x2 _ hf)
set_option maxHeartbeats 4000000 in
theorem tX11_pack_46 (l : Launch) (w : Wd) (hfl : l.stackTraces = false) (F d : Nat) (R_pack : Nat → Nat → Nat → Hp → Option (Hp)) (hR_pack : ∀ {b : Nat} {p0 : Nat} {p1 : Nat} (k_b : [6, 7, 8, 9, 11, 12].contains (nd_Kd b) = true) (k_p0 : nd_Kd p0 = 13) (k_p1 : nd_Kd p1 = 4) {h : Hp} {r : Hp}, R_pack b p0 p1 h = some r → nc_pack l w b (1 + 8 * d) (30 + 400 * d) [vr (some b), vr (some p0), vr (some p1)] h (.inl none, r)) (r : Hp) : ∀ (n : Nat) (this : Nat) (x1 : Nat) (x2 : Nat) (x3 : Int32) (k_this : nd_Kd this = 7) (k_x1 : nd_Kd x1 = 13) (k_x2 : nd_Kd x2 = 4) (h : Hp), fX11_pack_46 F d R_pack n this x1 x2 x3 h = some r → nd_V l w yX11_pack cX11_pack 4 none (2 + 8 * d) (53 + 400 * d) (.inl none, r) h 46 [(0, vr (some this)), (1, vr (some x1)), (2, vr (some x2)), (3, vi x3)] [] := by
  intro n
  induction n with
  | zero => intro _ _ _ _ _ _ _ _ hf; cases hf
  | succ n ih =>
    intro this x1 x2 x3 k_this k_x1 k_x2 h hf
    unfold fX11_pack_46 at hf
    refine nd_iload_n (j := 3) dX11_pack_46 rfl rfl ?_
    refine nd_aload_n (j := 0) dX11_pack_47 rfl rfl ?_
    refine nd_getI (k := 1) dX11_pack_48 k_this rfl (Nat.le_of_ble_eq_true rfl) (nd_flS q487 q488) rfl ?_
    refine nd_icmp_ge (tgt := 84) dX11_pack_51 (by decide) (fun c1 => ?_) (fun c1 => ?_)
    · replace hf := ifp c1 hf
      cases hf
      exact nd_vret dX11_pack_84
    · replace hf := ifn c1 hf
      refine nd_aload_n (j := 0) dX11_pack_54 rfl rfl ?_
      refine nd_aload_n (j := 1) dX11_pack_55 rfl rfl ?_
      refine nd_iload_n (j := 3) dX11_pack_56 rfl rfl ?_
      replace hf := caE hf
      obtain ⟨v3, h2, e_h2, hf⟩ := hf
      refine nd_Vi [] (tX11_isWritten l w hfl F d k_this k_x1 e_h2) rfl dX11_pack_57 mw_X11_isWritten (Or.inl q1165) k_this rfl q1167 qs24 (by omega) (by omega) (Nat.le_of_ble_eq_true rfl) ?_
      refine nd_if_eq (tgt := 78) dX11_pack_60 (by decide) (fun c4 => ?_) (fun c4 => ?_)
      · replace hf := ifp c4 hf
        exact nd_loc [0, 1, 2, 3] rfl (tX11_pack_78 l w hfl F d R_pack hR_pack r (fX11_pack_46 F d R_pack n) ih _ _ _ _ k_this k_x1 k_x2 _ hf)
      · replace hf := ifn c4 hf
        refine nd_aload_n (j := 0) dX11_pack_63 rfl rfl ?_
        refine nd_getP (k := 0) dX11_pack_64 k_this rfl (Nat.le_of_ble_eq_true rfl) (nd_flS q482 q483) rfl (fun ok5 => ?_)
        replace hf := nnE hf
        obtain ⟨a6, e_a6, hf⟩ := hf
        refine nd_topr e_a6.symm ?_
        have k_a6 : nd_Kd a6 = 24 := nd_c1 (ok5 a6 e_a6)
        refine nd_iload_n (j := 3) dX11_pack_67 rfl rfl ?_
        replace hf := ckE hf
        obtain ⟨c7, hf⟩ := hf
        refine nd_aald (t := 4) (C := "NotationDesk$Type") dX11_pack_68 k_a6 (by decide) (fun _ => rfl) c7 (fun ok8 => ?_)
        replace hf := bnE hf
        obtain ⟨o9, e_o9, hf⟩ := hf
        refine nd_topr e_o9 ?_
        have ok_o9 : ∀ b, o9 = some b → [6, 7, 8, 9, 11, 12].contains (nd_Kd b) = true := fun b q => ok8 b (e_o9 ▸ q)
        refine nd_aload_n (j := 1) dX11_pack_69 rfl rfl ?_
        refine nd_iload_n (j := 3) dX11_pack_70 rfl rfl ?_
        replace hf := caE hf
        obtain ⟨v11, h10, e_h10, hf⟩ := hf
        refine nd_Vr [vr o9] (tX17_component l w hfl F d k_x1 e_h10) rfl dX11_pack_71 mw_X17_component (Or.inl q1169) k_x1 rfl q1170 q1171 (by omega) (by omega) (Nat.le_of_ble_eq_true rfl) (fun ok12 => ?_)
        have ok_v11 : ∀ b, v11 = some b → [13].contains (nd_Kd b) = true := fun b q => okT13 (ok12 b q)
        refine nd_aload_n (j := 2) dX11_pack_74 rfl rfl ?_
        replace hf := nnE hf
        obtain ⟨a13, e_a13, hf⟩ := hf
        have k_a13 : [6, 7, 8, 9, 11, 12].contains (nd_Kd a13) = true := ok_o9 a13 e_a13
        subst e_a13
        replace hf := nnE hf
        obtain ⟨a14, e_a14, hf⟩ := hf
        have k_a14 : nd_Kd a14 = 13 := nd_c1 (ok_v11 a14 e_a14)
        subst e_a14
        replace hf := cvE hf
        obtain ⟨h15, e_h15, hf⟩ := hf
        refine nd_v_pack [] (hR_pack k_a13 k_a14 k_x2 e_h15) rfl dX11_pack_75 q1255 k_a13 (by omega) (by omega) (Nat.le_of_ble_eq_true rfl) ?_
        exact nd_loc [0, 1, 2, 3] rfl (tX11_pack_78 l w hfl F d R_pack hR_pack r (fX11_pack_46 F d R_pack n) ih _ _ _ _ k_this k_x1 k_x2 _ hf)
set_option maxHeartbeats 4000000 in
theorem tX11_pack_38 (l : Launch) (w : Wd) (hfl : l.stackTraces = false) (F d : Nat) (R_pack : Nat → Nat → Nat → Hp → Option (Hp)) (hR_pack : ∀ {b : Nat} {p0 : Nat} {p1 : Nat} (k_b : [6, 7, 8, 9, 11, 12].contains (nd_Kd b) = true) (k_p0 : nd_Kd p0 = 13) (k_p1 : nd_Kd p1 = 4) {h : Hp} {r : Hp}, R_pack b p0 p1 h = some r → nc_pack l w b (1 + 8 * d) (30 + 400 * d) [vr (some b), vr (some p0), vr (some p1)] h (.inl none, r)) (r : Hp) (k_2 : Nat → Nat → Nat → Int32 → Hp → Option (Hp)) (hk_2 : ∀ (this : Nat) (x1 : Nat) (x2 : Nat) (x3 : Int32) (k_this : nd_Kd this = 7) (k_x1 : nd_Kd x1 = 13) (k_x2 : nd_Kd x2 = 4) (h : Hp), k_2 this x1 x2 x3 h = some r → nd_V l w yX11_pack cX11_pack 4 none (2 + 8 * d) (53 + 400 * d) (.inl none, r) h 2 [(0, vr (some this)), (1, vr (some x1)), (2, vr (some x2)), (3, vi x3)] []) (this : Nat) (x1 : Nat) (x2 : Nat) (x3 : Int32) (k_this : nd_Kd this = 7) (k_x1 : nd_Kd x1 = 13) (k_x2 : nd_Kd x2 = 4) (h : Hp) (hf : fX11_pack_38 F d R_pack k_2 this x1 x2 x3 h = some r) : nd_V l w yX11_pack cX11_pack 4 none (2 + 8 * d) (53 + 400 * d) (.inl none, r) h 38 [(0, vr (some this)), (1, vr (some x1)), (2, vr (some x2)), (3, vi x3)] [] := by
  unfold fX11_pack_38 at hf
  replace hf := bnE hf
  obtain ⟨v1, e_v1, hf⟩ := hf
  refine nd_iinc (v := v1) (j := 3) [(3, vi v1), (0, vr (some this)), (1, vr (some x1)), (2, vr (some x2))] dX11_pack_38 rfl (by rw [e_v1]; rfl) (Nat.le_of_ble_eq_true rfl) rfl ?_
  refine nd_goto (tgt := 2) dX11_pack_41 (by decide) ?_
  exact nd_loc [1, 2, 3, 0] rfl (hk_2 _ _ _ _ k_this k_x1 k_x2 _ hf)
set_option maxHeartbeats 4000000 in
theorem tX11_pack_34 (l : Launch) (w : Wd) (hfl : l.stackTraces = false) (F d : Nat) (R_pack : Nat → Nat → Nat → Hp → Option (Hp)) (hR_pack : ∀ {b : Nat} {p0 : Nat} {p1 : Nat} (k_b : [6, 7, 8, 9, 11, 12].contains (nd_Kd b) = true) (k_p0 : nd_Kd p0 = 13) (k_p1 : nd_Kd p1 = 4) {h : Hp} {r : Hp}, R_pack b p0 p1 h = some r → nc_pack l w b (1 + 8 * d) (30 + 400 * d) [vr (some b), vr (some p0), vr (some p1)] h (.inl none, r)) (r : Hp) (k_2 : Nat → Nat → Nat → Int32 → Hp → Option (Hp)) (hk_2 : ∀ (this : Nat) (x1 : Nat) (x2 : Nat) (x3 : Int32) (k_this : nd_Kd this = 7) (k_x1 : nd_Kd x1 = 13) (k_x2 : nd_Kd x2 = 4) (h : Hp), k_2 this x1 x2 x3 h = some r → nd_V l w yX11_pack cX11_pack 4 none (2 + 8 * d) (53 + 400 * d) (.inl none, r) h 2 [(0, vr (some this)), (1, vr (some x1)), (2, vr (some x2)), (3, vi x3)] []) (this : Nat) (x1 : Nat) (x2 : Nat) (x3 : Int32) (s0 : Nat) (s1 : Int32) (k_this : nd_Kd this = 7) (k_x1 : nd_Kd x1 = 13) (k_x2 : nd_Kd x2 = 4) (k_s0 : nd_Kd s0 = 4) (h : Hp) (hf : fX11_pack_34 F d R_pack k_2 this x1 x2 x3 s0 s1 h = some r) : nd_V l w yX11_pack cX11_pack 4 none (2 + 8 * d) (53 + 400 * d) (.inl none, r) h 34 [(0, vr (some this)), (1, vr (some x1)), (2, vr (some x2)), (3, vi x3)] [vi s1, vr (some s0)] := by
  unfold fX11_pack_34 at hf
  refine nd_iconst (v := 1) dX11_pack_34 (by decide) ?_
  replace hf := cvE hf
  obtain ⟨h1, e_h1, hf⟩ := hf
  refine nd_Vv [] (tX5_put l w hfl F d k_s0 e_h1) rfl dX11_pack_35 mw_X5_put (Or.inl q1254) k_s0 rfl q1140 q1141 (by omega) (by omega) (Nat.le_of_ble_eq_true rfl) ?_
  exact nd_loc [0, 1, 2, 3] rfl (tX11_pack_38 l w hfl F d R_pack hR_pack r k_2 hk_2 _ _ _ _ k_this k_x1 k_x2 _ hf)
set_option maxHeartbeats 4000000 in
theorem tX11_pack_2 (l : Launch) (w : Wd) (hfl : l.stackTraces = false) (F d : Nat) (R_pack : Nat → Nat → Nat → Hp → Option (Hp)) (hR_pack : ∀ {b : Nat} {p0 : Nat} {p1 : Nat} (k_b : [6, 7, 8, 9, 11, 12].contains (nd_Kd b) = true) (k_p0 : nd_Kd p0 = 13) (k_p1 : nd_Kd p1 = 4) {h : Hp} {r : Hp}, R_pack b p0 p1 h = some r → nc_pack l w b (1 + 8 * d) (30 + 400 * d) [vr (some b), vr (some p0), vr (some p1)] h (.inl none, r)) (r : Hp) : ∀ (n : Nat) (this : Nat) (x1 : Nat) (x2 : Nat) (x3 : Int32) (k_this : nd_Kd this = 7) (k_x1 : nd_Kd x1 = 13) (k_x2 : nd_Kd x2 = 4) (h : Hp), fX11_pack_2 F d R_pack n this x1 x2 x3 h = some r → nd_V l w yX11_pack cX11_pack 4 none (2 + 8 * d) (53 + 400 * d) (.inl none, r) h 2 [(0, vr (some this)), (1, vr (some x1)), (2, vr (some x2)), (3, vi x3)] [] := by
  intro n
  induction n with
  | zero => intro _ _ _ _ _ _ _ _ hf; cases hf
  | succ n ih =>
    intro this x1 x2 x3 k_this k_x1 k_x2 h hf
    unfold fX11_pack_2 at hf
    refine nd_iload_n (j := 3) dX11_pack_2 rfl rfl ?_
    refine nd_aload_n (j := 0) dX11_pack_3 rfl rfl ?_
    refine nd_getI (k := 1) dX11_pack_4 k_this rfl (Nat.le_of_ble_eq_true rfl) (nd_flS q487 q488) rfl ?_
    refine nd_icmp_ge (tgt := 44) dX11_pack_7 (by decide) (fun c1 => ?_) (fun c1 => ?_)
    · replace hf := ifp c1 hf
      refine nd_iconst (v := 0) dX11_pack_44 (by decide) ?_
      refine nd_istore_n [(3, vi 0), (0, vr (some this)), (1, vr (some x1)), (2, vr (some x2))] dX11_pack_45 rfl (Nat.le_of_ble_eq_true rfl) rfl ?_
      exact nd_loc [1, 2, 3, 0] rfl (tX11_pack_46 l w hfl F d R_pack hR_pack r F _ _ _ _ k_this k_x1 k_x2 _ hf)
    · replace hf := ifn c1 hf
      refine nd_aload_n (j := 0) dX11_pack_10 rfl rfl ?_
      refine nd_getP (k := 2) dX11_pack_11 k_this rfl (Nat.le_of_ble_eq_true rfl) (nd_flO q475) rfl (fun ok2 => ?_)
      replace hf := nnE hf
      obtain ⟨a3, e_a3, hf⟩ := hf
      refine nd_topr e_a3.symm ?_
      have k_a3 : nd_Kd a3 = 20 := nd_c1 (ok2 a3 e_a3)
      refine nd_iload_n (j := 3) dX11_pack_14 rfl rfl ?_
      replace hf := ckE hf
      obtain ⟨c4, hf⟩ := hf
      refine nd_iald dX11_pack_15 k_a3 c4 ?_
      refine nd_if_eq (tgt := 38) dX11_pack_16 (by decide) (fun c5 => ?_) (fun c5 => ?_)
      · replace hf := ifp c5 hf
        exact nd_loc [0, 1, 2, 3] rfl (tX11_pack_38 l w hfl F d R_pack hR_pack r (fX11_pack_2 F d R_pack n) ih _ _ _ _ k_this k_x1 k_x2 _ hf)
      · replace hf := ifn c5 hf
        refine nd_aload_n (j := 2) dX11_pack_19 rfl rfl ?_
        refine nd_aload_n (j := 0) dX11_pack_20 rfl rfl ?_
        refine nd_aload_n (j := 1) dX11_pack_21 rfl rfl ?_
        refine nd_iload_n (j := 3) dX11_pack_22 rfl rfl ?_
        replace hf := caE hf
        obtain ⟨v7, h6, e_h6, hf⟩ := hf
        refine nd_Vi [vr (some x2)] (tX11_isWritten l w hfl F d k_this k_x1 e_h6) rfl dX11_pack_23 mw_X11_isWritten (Or.inl q1165) k_this rfl q1167 qs24 (by omega) (by omega) (Nat.le_of_ble_eq_true rfl) ?_
        refine nd_if_eq (tgt := 33) dX11_pack_26 (by decide) (fun c8 => ?_) (fun c8 => ?_)
        · replace hf := ifp c8 hf
          refine nd_iconst (v := 0) dX11_pack_33 (by decide) ?_
          exact nd_loc [0, 1, 2, 3] rfl (tX11_pack_34 l w hfl F d R_pack hR_pack r (fX11_pack_2 F d R_pack n) ih _ _ _ _ _ _ k_this k_x1 k_x2 k_x2 _ hf)
        · replace hf := ifn c8 hf
          refine nd_iconst (v := 1) dX11_pack_29 (by decide) ?_
          refine nd_goto (tgt := 34) dX11_pack_30 (by decide) ?_
          exact nd_loc [0, 1, 2, 3] rfl (tX11_pack_34 l w hfl F d R_pack hR_pack r (fX11_pack_2 F d R_pack n) ih _ _ _ _ _ _ k_this k_x1 k_x2 k_x2 _ hf)
set_option maxHeartbeats 4000000 in
theorem tX11_pack (l : Launch) (w : Wd) (hfl : l.stackTraces = false) (F d : Nat) (R_pack : Nat → Nat → Nat → Hp → Option (Hp)) (hR_pack : ∀ {b : Nat} {p0 : Nat} {p1 : Nat} (k_b : [6, 7, 8, 9, 11, 12].contains (nd_Kd b) = true) (k_p0 : nd_Kd p0 = 13) (k_p1 : nd_Kd p1 = 4) {h : Hp} {r : Hp}, R_pack b p0 p1 h = some r → nc_pack l w b (1 + 8 * d) (30 + 400 * d) [vr (some b), vr (some p0), vr (some p1)] h (.inl none, r)) {this : Nat} {p0 : Nat} {p1 : Nat} (k_this : nd_Kd this = 7) (k_p0 : nd_Kd p0 = 13) (k_p1 : nd_Kd p1 = 4) {h : Hp} {r : Hp} (hf : fX11_pack F d R_pack this p0 p1 h = some r) : nd_C l w yX11_pack cX11_pack 4 none (2 + 8 * d) (53 + 400 * d) [vr (some this), vr (some p0), vr (some p1)] h (.inl none, r) := by
  refine nd_start (as := [vr (some this), vr (some p0), vr (some p1)]) hfl (by decide) (Nat.le_of_ble_eq_true rfl) ?_
  unfold fX11_pack at hf
  refine nd_eqL (L' := [(0, vr (some this)), (1, vr (some p0)), (2, vr (some p1))]) rfl ?_
  refine nd_iconst (v := 0) dX11_pack_0 (by decide) ?_
  refine nd_istore_n [(3, vi 0), (0, vr (some this)), (1, vr (some p0)), (2, vr (some p1))] dX11_pack_1 rfl (Nat.le_of_ble_eq_true rfl) rfl ?_
  exact nd_loc [1, 2, 3, 0] rfl (tX11_pack_2 l w hfl F d R_pack hR_pack r F _ _ _ _ k_this k_p0 k_p1 _ hf)
