set_option maxRecDepth 100000
def fX6_leave_33 (F d : Nat) : Nat → Nat → Int32 → Hp → Option (Hp)
  | 0, _, _, _ => none
  | n + 1, this, x1, h =>
    if 256 ≤ x1 then
    (some h)
    else
    (nn (gP h 658 this) fun a3 => (
    ck (inb x1 (nd_Ln a3)) (
    bn (sA h a3 (Int32.toNatClampNeg x1) 0) fun h5 => (
    bn (x1 + 1) fun v6 => (
    fX6_leave_33 F d n this v6 h5)))))
def fX6_leave_12 (F d : Nat) : Nat → Nat → Int32 → Hp → Option (Hp)
  | 0, _, _, _ => none
  | n + 1, this, x1, h =>
    if 8 ≤ x1 then
    (fX6_leave_33 F d F this 0 h)
    else
    (nn (gP h 655 this) fun a3 => (
    ck (inb x1 (nd_Ln a3)) (
    bn (sA h a3 (Int32.toNatClampNeg x1) (-1)) fun h5 => (
    bn (x1 + 1) fun v6 => (
    fX6_leave_12 F d n this v6 h5)))))
def fX6_leave (F d : Nat) (this : Nat) (h : Hp) : Option (Hp) :=
  bn (sI h 601 this 0) fun h1 => (
  bn (sI h1 644 this 0) fun h2 => (
  fX6_leave_12 F d F this 0 h2))
theorem mw_X6_leave : nd_MW yX6_leave cX6_leave 2 none 0 := ⟨q1339, q91, by decide, by decide, by decide +kernel⟩
set_option maxHeartbeats 4000000 in
theorem tX6_leave_33 (l : Launch) (w : Wd) (hfl : l.stackTraces = false) (F d : Nat) (r : Hp) : ∀ (n : Nat) (this : Nat) (x1 : Int32) (k_this : nd_Kd this = 5) (h : Hp), fX6_leave_33 F d n this x1 h = some r → nd_V l w yX6_leave cX6_leave 2 none 0 0 (.inl none, r) h 33 [(0, vr (some this)), (1, vi x1)] [] := by
  intro n
  induction n with
  | zero => intro _ _ _ _ hf; cases hf
  | succ n ih =>
    intro this x1 k_this h hf
    unfold fX6_leave_33 at hf
    refine nd_iload_n (j := 1) dX6_leave_33 rfl rfl ?_
    refine nd_sipush (v := 256) dX6_leave_34 (by decide) ?_
    refine nd_icmp_ge (tgt := 53) dX6_leave_37 (by decide) (fun c1 => ?_) (fun c1 => ?_)
    · replace hf := ifp c1 hf
      cases hf
      exact nd_vret dX6_leave_53
    · replace hf := ifn c1 hf
      refine nd_aload_n (j := 0) dX6_leave_40 rfl rfl ?_
      refine nd_getP (k := 58) dX6_leave_41 k_this rfl (Nat.le_of_ble_eq_true rfl) (nd_flO q1398) rfl (fun ok2 => ?_)
      replace hf := nnE hf
      obtain ⟨a3, e_a3, hf⟩ := hf
      refine nd_topr e_a3.symm ?_
      have k_a3 : nd_Kd a3 = 22 := nd_c1 (ok2 a3 e_a3)
      refine nd_iload_n (j := 1) dX6_leave_44 rfl rfl ?_
      refine nd_iconst (v := 0) dX6_leave_45 (by decide) ?_
      replace hf := ckE hf
      obtain ⟨c4, hf⟩ := hf
      refine nd_zast dX6_leave_46 k_a3 c4 (by decide) ?_
      replace hf := bnE hf
      obtain ⟨h5, e_h5, hf⟩ := hf
      refine nd_hp e_h5 ?_
      replace hf := bnE hf
      obtain ⟨v6, e_v6, hf⟩ := hf
      refine nd_iinc (v := v6) (j := 1) [(1, vi v6), (0, vr (some this))] dX6_leave_47 rfl (by rw [e_v6]; rfl) (Nat.le_of_ble_eq_true rfl) rfl ?_
      refine nd_goto (tgt := 33) dX6_leave_50 (by decide) ?_
      exact nd_loc [1, 0] rfl (ih _ _ k_this _ hf)
set_option maxHeartbeats 4000000 in
theorem tX6_leave_12 (l : Launch) (w : Wd) (hfl : l.stackTraces = false) (F d : Nat) (r : Hp) : ∀ (n : Nat) (this : Nat) (x1 : Int32) (k_this : nd_Kd this = 5) (h : Hp), fX6_leave_12 F d n this x1 h = some r → nd_V l w yX6_leave cX6_leave 2 none 0 0 (.inl none, r) h 12 [(0, vr (some this)), (1, vi x1)] [] := by
  intro n
  induction n with
  | zero => intro _ _ _ _ hf; cases hf
  | succ n ih =>
    intro this x1 k_this h hf
    unfold fX6_leave_12 at hf
    refine nd_iload_n (j := 1) dX6_leave_12 rfl rfl ?_
    refine nd_bipush (v := 8) dX6_leave_13 (by decide) ?_
    refine nd_icmp_ge (tgt := 31) dX6_leave_15 (by decide) (fun c1 => ?_) (fun c1 => ?_)
    · replace hf := ifp c1 hf
      refine nd_iconst (v := 0) dX6_leave_31 (by decide) ?_
      refine nd_istore_n [(1, vi 0), (0, vr (some this))] dX6_leave_32 rfl (Nat.le_of_ble_eq_true rfl) rfl ?_
      exact nd_loc [1, 0] rfl (tX6_leave_33 l w hfl F d r F _ _ k_this _ hf)
    · replace hf := ifn c1 hf
      refine nd_aload_n (j := 0) dX6_leave_18 rfl rfl ?_
      refine nd_getP (k := 55) dX6_leave_19 k_this rfl (Nat.le_of_ble_eq_true rfl) (nd_flO q1395) rfl (fun ok2 => ?_)
      replace hf := nnE hf
      obtain ⟨a3, e_a3, hf⟩ := hf
      refine nd_topr e_a3.symm ?_
      have k_a3 : nd_Kd a3 = 20 := nd_c1 (ok2 a3 e_a3)
      refine nd_iload_n (j := 1) dX6_leave_22 rfl rfl ?_
      refine nd_iconst (v := (-1)) dX6_leave_23 (by decide) ?_
      replace hf := ckE hf
      obtain ⟨c4, hf⟩ := hf
      refine nd_iast dX6_leave_24 k_a3 c4 ?_
      replace hf := bnE hf
      obtain ⟨h5, e_h5, hf⟩ := hf
      refine nd_hp e_h5 ?_
      replace hf := bnE hf
      obtain ⟨v6, e_v6, hf⟩ := hf
      refine nd_iinc (v := v6) (j := 1) [(1, vi v6), (0, vr (some this))] dX6_leave_25 rfl (by rw [e_v6]; rfl) (Nat.le_of_ble_eq_true rfl) rfl ?_
      refine nd_goto (tgt := 12) dX6_leave_28 (by decide) ?_
      exact nd_loc [1, 0] rfl (ih _ _ k_this _ hf)
set_option maxHeartbeats 4000000 in
theorem tX6_leave (l : Launch) (w : Wd) (hfl : l.stackTraces = false) (F d : Nat) {this : Nat} (k_this : nd_Kd this = 5) {h : Hp} {r : Hp} (hf : fX6_leave F d this h = some r) : nd_C l w yX6_leave cX6_leave 2 none 0 0 [vr (some this)] h (.inl none, r) := by
  refine nd_start (as := [vr (some this)]) hfl (by decide) (Nat.le_of_ble_eq_true rfl) ?_
  unfold fX6_leave at hf
  refine nd_eqL (L' := [(0, vr (some this))]) rfl ?_
  refine nd_aload_n (j := 0) dX6_leave_0 rfl rfl ?_
  refine nd_iconst (v := 0) dX6_leave_1 (by decide) ?_
  refine nd_putZ (k := 1) (by decide) dX6_leave_2 k_this rfl (Nat.le_of_ble_eq_true rfl) (nd_flO q1341) rfl rfl rfl ?_
  replace hf := bnE hf
  obtain ⟨h1, e_h1, hf⟩ := hf
  refine nd_hp e_h1 ?_
  refine nd_aload_n (j := 0) dX6_leave_5 rfl rfl ?_
  refine nd_iconst (v := 0) dX6_leave_6 (by decide) ?_
  refine nd_putN (k := 44) dX6_leave_7 k_this rfl (Nat.le_of_ble_eq_true rfl) (nd_flO q1384) rfl rfl rfl ?_
  replace hf := bnE hf
  obtain ⟨h2, e_h2, hf⟩ := hf
  refine nd_hp e_h2 ?_
  refine nd_iconst (v := 0) dX6_leave_10 (by decide) ?_
  refine nd_istore_n [(1, vi 0), (0, vr (some this))] dX6_leave_11 rfl (Nat.le_of_ble_eq_true rfl) rfl ?_
  exact nd_loc [1, 0] rfl (tX6_leave_12 l w hfl F d r F _ _ k_this _ hf)
def fX6_init (F d : Nat) (this : Nat) (h : Hp) : Option (Hp) :=
  bn 3001 fun n3 => (
  ck (freA h n3 21 150) (
  bn (nw h n3 150) fun h2 => (
  bn (sP h2 607 this (some n3)) fun h4 => (
  bn 3002 fun n7 => (
  ck (freA h4 n7 20 150) (
  bn (nw h4 n7 150) fun h6 => (
  bn (sP h6 608 this (some n7)) fun h8 => (
  bn 3003 fun n11 => (
  ck (freA h8 n11 20 26) (
  bn (nw h8 n11 26) fun h10 => (
  bn (sP h10 609 this (some n11)) fun h12 => (
  bn 3004 fun n15 => (
  ck (freA h12 n15 20 160) (
  bn (nw h12 n15 160) fun h14 => (
  bn (sP h14 611 this (some n15)) fun h16 => (
  bn 3005 fun n19 => (
  ck (freA h16 n19 20 160) (
  bn (nw h16 n19 160) fun h18 => (
  bn (sP h18 612 this (some n19)) fun h20 => (
  bn 3006 fun n23 => (
  ck (freA h20 n23 20 160) (
  bn (nw h20 n23 160) fun h22 => (
  bn (sP h22 613 this (some n23)) fun h24 => (
  bn 3007 fun n27 => (
  ck (freA h24 n27 20 160) (
  bn (nw h24 n27 160) fun h26 => (
  bn (sP h26 614 this (some n27)) fun h28 => (
  bn 3008 fun n31 => (
  ck (freA h28 n31 20 160) (
  bn (nw h28 n31 160) fun h30 => (
  bn (sP h30 615 this (some n31)) fun h32 => (
  bn 3009 fun n35 => (
  ck (freA h32 n35 20 160) (
  bn (nw h32 n35 160) fun h34 => (
  bn (sP h34 616 this (some n35)) fun h36 => (
  bn 3010 fun n39 => (
  ck (freA h36 n39 20 160) (
  bn (nw h36 n39 160) fun h38 => (
  bn (sP h38 617 this (some n39)) fun h40 => (
  bn 3011 fun n43 => (
  ck (freA h40 n43 22 160) (
  bn (nw h40 n43 160) fun h42 => (
  bn (sP h42 618 this (some n43)) fun h44 => (
  bn 3012 fun n47 => (
  ck (freA h44 n47 22 160) (
  bn (nw h44 n47 160) fun h46 => (
  bn (sP h46 619 this (some n47)) fun h48 => (
  bn 3013 fun n51 => (
  ck (freA h48 n51 20 960) (
  bn (nw h48 n51 960) fun h50 => (
  bn (sP h50 620 this (some n51)) fun h52 => (
  bn 3014 fun n55 => (
  ck (freA h52 n55 20 960) (
  bn (nw h52 n55 960) fun h54 => (
  bn (sP h54 621 this (some n55)) fun h56 => (
  bn 3015 fun n59 => (
  ck (freA h56 n59 20 960) (
  bn (nw h56 n59 960) fun h58 => (
  bn (sP h58 622 this (some n59)) fun h60 => (
  bn 3016 fun n63 => (
  ck (freA h60 n63 20 16) (
  bn (nw h60 n63 16) fun h62 => (
  bn (sP h62 625 this (some n63)) fun h64 => (
  bn 3017 fun n67 => (
  ck (freA h64 n67 20 150) (
  bn (nw h64 n67 150) fun h66 => (
  bn (sP h66 626 this (some n67)) fun h68 => (
  bn 3018 fun n71 => (
  ck (freA h68 n71 20 120) (
  bn (nw h68 n71 120) fun h70 => (
  bn (sP h70 631 this (some n71)) fun h72 => (
  bn 3019 fun n75 => (
  ck (freA h72 n75 20 120) (
  bn (nw h72 n75 120) fun h74 => (
  bn (sP h74 632 this (some n75)) fun h76 => (
  bn 3020 fun n79 => (
  ck (freA h76 n79 20 4000) (
  bn (nw h76 n79 4000) fun h78 => (
  bn (sP h78 633 this (some n79)) fun h80 => (
  bn 3021 fun n83 => (
  ck (freA h80 n83 20 100) (
  bn (nw h80 n83 100) fun h82 => (
  bn (sP h82 636 this (some n83)) fun h84 => (
  bn 3022 fun n87 => (
  ck (freA h84 n87 20 100) (
  bn (nw h84 n87 100) fun h86 => (
  bn (sP h86 637 this (some n87)) fun h88 => (
  bn 3023 fun n91 => (
  ck (freA h88 n91 20 100) (
  bn (nw h88 n91 100) fun h90 => (
  bn (sP h90 638 this (some n91)) fun h92 => (
  bn 3024 fun n95 => (
  ck (freA h92 n95 20 100) (
  bn (nw h92 n95 100) fun h94 => (
  bn (sP h94 639 this (some n95)) fun h96 => (
  bn 3025 fun n99 => (
  ck (freA h96 n99 20 100) (
  bn (nw h96 n99 100) fun h98 => (
  bn (sP h98 640 this (some n99)) fun h100 => (
  bn 3026 fun n103 => (
  ck (freA h100 n103 20 100) (
  bn (nw h100 n103 100) fun h102 => (
  bn (sP h102 641 this (some n103)) fun h104 => (
  bn 3027 fun n107 => (
  ck (freA h104 n107 20 101) (
  bn (nw h104 n107 101) fun h106 => (
  bn (sP h106 642 this (some n107)) fun h108 => (
  bn 3028 fun n111 => (
  ck (freA h108 n111 20 240) (
  bn (nw h108 n111 240) fun h110 => (
  bn (sP h110 643 this (some n111)) fun h112 => (
  bn 3029 fun n115 => (
  ck (freA h112 n115 20 500) (
  bn (nw h112 n115 500) fun h114 => (
  bn (sP h114 645 this (some n115)) fun h116 => (
  bn 3030 fun n119 => (
  ck (freA h116 n119 20 240) (
  bn (nw h116 n119 240) fun h118 => (
  bn (sP h118 646 this (some n119)) fun h120 => (
  bn 3031 fun n123 => (
  ck (freA h120 n123 20 160) (
  bn (nw h120 n123 160) fun h122 => (
  bn (sP h122 650 this (some n123)) fun h124 => (
  bn 3032 fun n127 => (
  ck (freA h124 n127 20 160) (
  bn (nw h124 n127 160) fun h126 => (
  bn (sP h126 651 this (some n127)) fun h128 => (
  bn 3033 fun n131 => (
  ck (freA h128 n131 20 160) (
  bn (nw h128 n131 160) fun h130 => (
  bn (sP h130 652 this (some n131)) fun h132 => (
  bn 3034 fun n135 => (
  ck (freA h132 n135 20 160) (
  bn (nw h132 n135 160) fun h134 => (
  bn (sP h134 653 this (some n135)) fun h136 => (
  bn 3035 fun n139 => (
  ck (freA h136 n139 22 160) (
  bn (nw h136 n139 160) fun h138 => (
  bn (sP h138 654 this (some n139)) fun h140 => (
  bn 3036 fun n143 => (
  ck (freA h140 n143 20 8) (
  bn (nw h140 n143 8) fun h142 => (
  bn (sP h142 655 this (some n143)) fun h144 => (
  bn 3037 fun n147 => (
  ck (freA h144 n147 20 8) (
  bn (nw h144 n147 8) fun h146 => (
  bn (sP h146 656 this (some n147)) fun h148 => (
  bn 3038 fun n151 => (
  ck (freA h148 n151 20 8) (
  bn (nw h148 n151 8) fun h150 => (
  bn (sP h150 657 this (some n151)) fun h152 => (
  bn 3039 fun n155 => (
  ck (freA h152 n155 22 256) (
  bn (nw h152 n155 256) fun h154 => (
  bn (sP h154 658 this (some n155)) fun h156 => (
  cv (fX6_leave F d this h156) fun h157 => (
  some h157)))))))))))))))))))))))))))))))))))))))))))))))))))))))))))))))))))))))))))))))))))))))))))))))))))))))))))))))))))))))))))))))))))))))))))))))))))))))))))))
theorem mw_X6_init : nd_MW yX6_init cX6_init 1 none 0 := ⟨q1334, q91, by decide, by decide, by decide +kernel⟩
set_option maxHeartbeats 4000000 in
theorem tX6_init (l : Launch) (w : Wd) (hfl : l.stackTraces = false) (F d : Nat) {this : Nat} (k_this : nd_Kd this = 5) {h : Hp} {r : Hp} (hf : fX6_init F d this h = some r) : nd_C l w yX6_init cX6_init 1 none 1 40 [vr (some this)] h (.inl none, r) := by
  refine nd_start (as := [vr (some this)]) hfl (by decide) (Nat.le_of_ble_eq_true rfl) ?_
  unfold fX6_init at hf
  refine nd_eqL (L' := [(0, vr (some this))]) rfl ?_
  refine nd_aload_n (j := 0) dX6_init_0 rfl rfl ?_
  refine nd_obj dX6_init_1 q1335 q119 q120 (Nat.le_of_ble_eq_true rfl) (Nat.le_of_ble_eq_true rfl) ?_
  refine nd_aload_n (j := 0) dX6_init_4 rfl rfl ?_
  refine nd_sipush (v := 150) dX6_init_5 (by decide) ?_
  replace hf := bnE hf
  obtain ⟨n3, e_n3, hf⟩ := hf
  replace hf := ckE hf
  obtain ⟨c1, hf⟩ := hf
  refine nd_newC (n := n3) (z := 150) dX6_init_8 (by decide +kernel) (by decide) (Nat.le_of_ble_eq_true rfl) c1 ?_
  replace hf := bnE hf
  obtain ⟨h2, e_h2, hf⟩ := hf
  refine nd_hp e_h2 ?_
  have k_n3 : nd_Kd n3 = 21 := (freAE c1).2.1
  refine nd_putF (k := 7) (f := 607) dX6_init_10 k_this rfl (Nat.le_of_ble_eq_true rfl) q1347 rfl rfl rfl rfl rfl (fun b e => by cases e; rw [k_n3]; rfl) ?_
  replace hf := bnE hf
  obtain ⟨h4, e_h4, hf⟩ := hf
  refine nd_hp e_h4 ?_
  refine nd_aload_n (j := 0) dX6_init_13 rfl rfl ?_
  refine nd_sipush (v := 150) dX6_init_14 (by decide) ?_
  replace hf := bnE hf
  obtain ⟨n7, e_n7, hf⟩ := hf
  replace hf := ckE hf
  obtain ⟨c5, hf⟩ := hf
  refine nd_newI (n := n7) (z := 150) dX6_init_17 (by decide +kernel) (by decide) (Nat.le_of_ble_eq_true rfl) c5 ?_
  replace hf := bnE hf
  obtain ⟨h6, e_h6, hf⟩ := hf
  refine nd_hp e_h6 ?_
  have k_n7 : nd_Kd n7 = 20 := (freAE c5).2.1
  refine nd_putF (k := 8) (f := 608) dX6_init_19 k_this rfl (Nat.le_of_ble_eq_true rfl) q1348 rfl rfl rfl rfl rfl (fun b e => by cases e; rw [k_n7]; rfl) ?_
  replace hf := bnE hf
  obtain ⟨h8, e_h8, hf⟩ := hf
  refine nd_hp e_h8 ?_
  refine nd_aload_n (j := 0) dX6_init_22 rfl rfl ?_
  refine nd_bipush (v := 26) dX6_init_23 (by decide) ?_
  replace hf := bnE hf
  obtain ⟨n11, e_n11, hf⟩ := hf
  replace hf := ckE hf
  obtain ⟨c9, hf⟩ := hf
  refine nd_newI (n := n11) (z := 26) dX6_init_25 (by decide +kernel) (by decide) (Nat.le_of_ble_eq_true rfl) c9 ?_
  replace hf := bnE hf
  obtain ⟨h10, e_h10, hf⟩ := hf
  refine nd_hp e_h10 ?_
  have k_n11 : nd_Kd n11 = 20 := (freAE c9).2.1
  refine nd_putF (k := 9) (f := 609) dX6_init_27 k_this rfl (Nat.le_of_ble_eq_true rfl) q1349 rfl rfl rfl rfl rfl (fun b e => by cases e; rw [k_n11]; rfl) ?_
  replace hf := bnE hf
  obtain ⟨h12, e_h12, hf⟩ := hf
  refine nd_hp e_h12 ?_
  refine nd_aload_n (j := 0) dX6_init_30 rfl rfl ?_
  refine nd_sipush (v := 160) dX6_init_31 (by decide) ?_
  replace hf := bnE hf
  obtain ⟨n15, e_n15, hf⟩ := hf
  replace hf := ckE hf
  obtain ⟨c13, hf⟩ := hf
  refine nd_newI (n := n15) (z := 160) dX6_init_34 (by decide +kernel) (by decide) (Nat.le_of_ble_eq_true rfl) c13 ?_
  replace hf := bnE hf
  obtain ⟨h14, e_h14, hf⟩ := hf
  refine nd_hp e_h14 ?_
  have k_n15 : nd_Kd n15 = 20 := (freAE c13).2.1
  refine nd_putF (k := 11) (f := 611) dX6_init_36 k_this rfl (Nat.le_of_ble_eq_true rfl) q1351 rfl rfl rfl rfl rfl (fun b e => by cases e; rw [k_n15]; rfl) ?_
  replace hf := bnE hf
  obtain ⟨h16, e_h16, hf⟩ := hf
  refine nd_hp e_h16 ?_
  refine nd_aload_n (j := 0) dX6_init_39 rfl rfl ?_
  refine nd_sipush (v := 160) dX6_init_40 (by decide) ?_
  replace hf := bnE hf
  obtain ⟨n19, e_n19, hf⟩ := hf
  replace hf := ckE hf
  obtain ⟨c17, hf⟩ := hf
  refine nd_newI (n := n19) (z := 160) dX6_init_43 (by decide +kernel) (by decide) (Nat.le_of_ble_eq_true rfl) c17 ?_
  replace hf := bnE hf
  obtain ⟨h18, e_h18, hf⟩ := hf
  refine nd_hp e_h18 ?_
  have k_n19 : nd_Kd n19 = 20 := (freAE c17).2.1
  refine nd_putF (k := 12) (f := 612) dX6_init_45 k_this rfl (Nat.le_of_ble_eq_true rfl) q1352 rfl rfl rfl rfl rfl (fun b e => by cases e; rw [k_n19]; rfl) ?_
  replace hf := bnE hf
  obtain ⟨h20, e_h20, hf⟩ := hf
  refine nd_hp e_h20 ?_
  refine nd_aload_n (j := 0) dX6_init_48 rfl rfl ?_
  refine nd_sipush (v := 160) dX6_init_49 (by decide) ?_
  replace hf := bnE hf
  obtain ⟨n23, e_n23, hf⟩ := hf
  replace hf := ckE hf
  obtain ⟨c21, hf⟩ := hf
  refine nd_newI (n := n23) (z := 160) dX6_init_52 (by decide +kernel) (by decide) (Nat.le_of_ble_eq_true rfl) c21 ?_
  replace hf := bnE hf
  obtain ⟨h22, e_h22, hf⟩ := hf
  refine nd_hp e_h22 ?_
  have k_n23 : nd_Kd n23 = 20 := (freAE c21).2.1
  refine nd_putF (k := 13) (f := 613) dX6_init_54 k_this rfl (Nat.le_of_ble_eq_true rfl) q1353 rfl rfl rfl rfl rfl (fun b e => by cases e; rw [k_n23]; rfl) ?_
  replace hf := bnE hf
  obtain ⟨h24, e_h24, hf⟩ := hf
  refine nd_hp e_h24 ?_
  refine nd_aload_n (j := 0) dX6_init_57 rfl rfl ?_
  refine nd_sipush (v := 160) dX6_init_58 (by decide) ?_
  replace hf := bnE hf
  obtain ⟨n27, e_n27, hf⟩ := hf
  replace hf := ckE hf
  obtain ⟨c25, hf⟩ := hf
  refine nd_newI (n := n27) (z := 160) dX6_init_61 (by decide +kernel) (by decide) (Nat.le_of_ble_eq_true rfl) c25 ?_
  replace hf := bnE hf
  obtain ⟨h26, e_h26, hf⟩ := hf
  refine nd_hp e_h26 ?_
  have k_n27 : nd_Kd n27 = 20 := (freAE c25).2.1
  refine nd_putF (k := 14) (f := 614) dX6_init_63 k_this rfl (Nat.le_of_ble_eq_true rfl) q1354 rfl rfl rfl rfl rfl (fun b e => by cases e; rw [k_n27]; rfl) ?_
  replace hf := bnE hf
  obtain ⟨h28, e_h28, hf⟩ := hf
  refine nd_hp e_h28 ?_
  refine nd_aload_n (j := 0) dX6_init_66 rfl rfl ?_
  refine nd_sipush (v := 160) dX6_init_67 (by decide) ?_
  replace hf := bnE hf
  obtain ⟨n31, e_n31, hf⟩ := hf
  replace hf := ckE hf
  obtain ⟨c29, hf⟩ := hf
  refine nd_newI (n := n31) (z := 160) dX6_init_70 (by decide +kernel) (by decide) (Nat.le_of_ble_eq_true rfl) c29 ?_
  replace hf := bnE hf
  obtain ⟨h30, e_h30, hf⟩ := hf
  refine nd_hp e_h30 ?_
  have k_n31 : nd_Kd n31 = 20 := (freAE c29).2.1
  refine nd_putF (k := 15) (f := 615) dX6_init_72 k_this rfl (Nat.le_of_ble_eq_true rfl) q1355 rfl rfl rfl rfl rfl (fun b e => by cases e; rw [k_n31]; rfl) ?_
  replace hf := bnE hf
  obtain ⟨h32, e_h32, hf⟩ := hf
  refine nd_hp e_h32 ?_
  refine nd_aload_n (j := 0) dX6_init_75 rfl rfl ?_
  refine nd_sipush (v := 160) dX6_init_76 (by decide) ?_
  replace hf := bnE hf
  obtain ⟨n35, e_n35, hf⟩ := hf
  replace hf := ckE hf
  obtain ⟨c33, hf⟩ := hf
  refine nd_newI (n := n35) (z := 160) dX6_init_79 (by decide +kernel) (by decide) (Nat.le_of_ble_eq_true rfl) c33 ?_
  replace hf := bnE hf
  obtain ⟨h34, e_h34, hf⟩ := hf
  refine nd_hp e_h34 ?_
  have k_n35 : nd_Kd n35 = 20 := (freAE c33).2.1
  refine nd_putF (k := 16) (f := 616) dX6_init_81 k_this rfl (Nat.le_of_ble_eq_true rfl) q1356 rfl rfl rfl rfl rfl (fun b e => by cases e; rw [k_n35]; rfl) ?_
  replace hf := bnE hf
  obtain ⟨h36, e_h36, hf⟩ := hf
  refine nd_hp e_h36 ?_
  refine nd_aload_n (j := 0) dX6_init_84 rfl rfl ?_
  refine nd_sipush (v := 160) dX6_init_85 (by decide) ?_
  replace hf := bnE hf
  obtain ⟨n39, e_n39, hf⟩ := hf
  replace hf := ckE hf
  obtain ⟨c37, hf⟩ := hf
  refine nd_newI (n := n39) (z := 160) dX6_init_88 (by decide +kernel) (by decide) (Nat.le_of_ble_eq_true rfl) c37 ?_
  replace hf := bnE hf
  obtain ⟨h38, e_h38, hf⟩ := hf
  refine nd_hp e_h38 ?_
  have k_n39 : nd_Kd n39 = 20 := (freAE c37).2.1
  refine nd_putF (k := 17) (f := 617) dX6_init_90 k_this rfl (Nat.le_of_ble_eq_true rfl) q1357 rfl rfl rfl rfl rfl (fun b e => by cases e; rw [k_n39]; rfl) ?_
  replace hf := bnE hf
  obtain ⟨h40, e_h40, hf⟩ := hf
  refine nd_hp e_h40 ?_
  refine nd_aload_n (j := 0) dX6_init_93 rfl rfl ?_
  refine nd_sipush (v := 160) dX6_init_94 (by decide) ?_
  replace hf := bnE hf
  obtain ⟨n43, e_n43, hf⟩ := hf
  replace hf := ckE hf
  obtain ⟨c41, hf⟩ := hf
  refine nd_newZ (n := n43) (z := 160) dX6_init_97 (by decide +kernel) (by decide) (Nat.le_of_ble_eq_true rfl) c41 ?_
  replace hf := bnE hf
  obtain ⟨h42, e_h42, hf⟩ := hf
  refine nd_hp e_h42 ?_
  have k_n43 : nd_Kd n43 = 22 := (freAE c41).2.1
  refine nd_putF (k := 18) (f := 618) dX6_init_99 k_this rfl (Nat.le_of_ble_eq_true rfl) q1358 rfl rfl rfl rfl rfl (fun b e => by cases e; rw [k_n43]; rfl) ?_
  replace hf := bnE hf
  obtain ⟨h44, e_h44, hf⟩ := hf
  refine nd_hp e_h44 ?_
  refine nd_aload_n (j := 0) dX6_init_102 rfl rfl ?_
  refine nd_sipush (v := 160) dX6_init_103 (by decide) ?_
  replace hf := bnE hf
  obtain ⟨n47, e_n47, hf⟩ := hf
  replace hf := ckE hf
  obtain ⟨c45, hf⟩ := hf
  refine nd_newZ (n := n47) (z := 160) dX6_init_106 (by decide +kernel) (by decide) (Nat.le_of_ble_eq_true rfl) c45 ?_
  replace hf := bnE hf
  obtain ⟨h46, e_h46, hf⟩ := hf
  refine nd_hp e_h46 ?_
  have k_n47 : nd_Kd n47 = 22 := (freAE c45).2.1
  refine nd_putF (k := 19) (f := 619) dX6_init_108 k_this rfl (Nat.le_of_ble_eq_true rfl) q1359 rfl rfl rfl rfl rfl (fun b e => by cases e; rw [k_n47]; rfl) ?_
  replace hf := bnE hf
  obtain ⟨h48, e_h48, hf⟩ := hf
  refine nd_hp e_h48 ?_
  refine nd_aload_n (j := 0) dX6_init_111 rfl rfl ?_
  refine nd_sipush (v := 960) dX6_init_112 (by decide) ?_
  replace hf := bnE hf
  obtain ⟨n51, e_n51, hf⟩ := hf
  replace hf := ckE hf
  obtain ⟨c49, hf⟩ := hf
  refine nd_newI (n := n51) (z := 960) dX6_init_115 (by decide +kernel) (by decide) (Nat.le_of_ble_eq_true rfl) c49 ?_
  replace hf := bnE hf
  obtain ⟨h50, e_h50, hf⟩ := hf
  refine nd_hp e_h50 ?_
  have k_n51 : nd_Kd n51 = 20 := (freAE c49).2.1
  refine nd_putF (k := 20) (f := 620) dX6_init_117 k_this rfl (Nat.le_of_ble_eq_true rfl) q1360 rfl rfl rfl rfl rfl (fun b e => by cases e; rw [k_n51]; rfl) ?_
  replace hf := bnE hf
  obtain ⟨h52, e_h52, hf⟩ := hf
  refine nd_hp e_h52 ?_
  refine nd_aload_n (j := 0) dX6_init_120 rfl rfl ?_
  refine nd_sipush (v := 960) dX6_init_121 (by decide) ?_
  replace hf := bnE hf
  obtain ⟨n55, e_n55, hf⟩ := hf
  replace hf := ckE hf
  obtain ⟨c53, hf⟩ := hf
  refine nd_newI (n := n55) (z := 960) dX6_init_124 (by decide +kernel) (by decide) (Nat.le_of_ble_eq_true rfl) c53 ?_
  replace hf := bnE hf
  obtain ⟨h54, e_h54, hf⟩ := hf
  refine nd_hp e_h54 ?_
  have k_n55 : nd_Kd n55 = 20 := (freAE c53).2.1
  refine nd_putF (k := 21) (f := 621) dX6_init_126 k_this rfl (Nat.le_of_ble_eq_true rfl) q1361 rfl rfl rfl rfl rfl (fun b e => by cases e; rw [k_n55]; rfl) ?_
  replace hf := bnE hf
  obtain ⟨h56, e_h56, hf⟩ := hf
  refine nd_hp e_h56 ?_
  refine nd_aload_n (j := 0) dX6_init_129 rfl rfl ?_
  refine nd_sipush (v := 960) dX6_init_130 (by decide) ?_
  replace hf := bnE hf
  obtain ⟨n59, e_n59, hf⟩ := hf
  replace hf := ckE hf
  obtain ⟨c57, hf⟩ := hf
  refine nd_newI (n := n59) (z := 960) dX6_init_133 (by decide +kernel) (by decide) (Nat.le_of_ble_eq_true rfl) c57 ?_
  replace hf := bnE hf
  obtain ⟨h58, e_h58, hf⟩ := hf
  refine nd_hp e_h58 ?_
  have k_n59 : nd_Kd n59 = 20 := (freAE c57).2.1
  refine nd_putF (k := 22) (f := 622) dX6_init_135 k_this rfl (Nat.le_of_ble_eq_true rfl) q1362 rfl rfl rfl rfl rfl (fun b e => by cases e; rw [k_n59]; rfl) ?_
  replace hf := bnE hf
  obtain ⟨h60, e_h60, hf⟩ := hf
  refine nd_hp e_h60 ?_
  refine nd_aload_n (j := 0) dX6_init_138 rfl rfl ?_
  refine nd_bipush (v := 16) dX6_init_139 (by decide) ?_
  replace hf := bnE hf
  obtain ⟨n63, e_n63, hf⟩ := hf
  replace hf := ckE hf
  obtain ⟨c61, hf⟩ := hf
  refine nd_newI (n := n63) (z := 16) dX6_init_141 (by decide +kernel) (by decide) (Nat.le_of_ble_eq_true rfl) c61 ?_
  replace hf := bnE hf
  obtain ⟨h62, e_h62, hf⟩ := hf
  refine nd_hp e_h62 ?_
  have k_n63 : nd_Kd n63 = 20 := (freAE c61).2.1
  refine nd_putF (k := 25) (f := 625) dX6_init_143 k_this rfl (Nat.le_of_ble_eq_true rfl) q1365 rfl rfl rfl rfl rfl (fun b e => by cases e; rw [k_n63]; rfl) ?_
  replace hf := bnE hf
  obtain ⟨h64, e_h64, hf⟩ := hf
  refine nd_hp e_h64 ?_
  refine nd_aload_n (j := 0) dX6_init_146 rfl rfl ?_
  refine nd_sipush (v := 150) dX6_init_147 (by decide) ?_
  replace hf := bnE hf
  obtain ⟨n67, e_n67, hf⟩ := hf
  replace hf := ckE hf
  obtain ⟨c65, hf⟩ := hf
  refine nd_newI (n := n67) (z := 150) dX6_init_150 (by decide +kernel) (by decide) (Nat.le_of_ble_eq_true rfl) c65 ?_
  replace hf := bnE hf
  obtain ⟨h66, e_h66, hf⟩ := hf
  refine nd_hp e_h66 ?_
  have k_n67 : nd_Kd n67 = 20 := (freAE c65).2.1
  refine nd_putF (k := 26) (f := 626) dX6_init_152 k_this rfl (Nat.le_of_ble_eq_true rfl) q1366 rfl rfl rfl rfl rfl (fun b e => by cases e; rw [k_n67]; rfl) ?_
  replace hf := bnE hf
  obtain ⟨h68, e_h68, hf⟩ := hf
  refine nd_hp e_h68 ?_
  refine nd_aload_n (j := 0) dX6_init_155 rfl rfl ?_
  refine nd_bipush (v := 120) dX6_init_156 (by decide) ?_
  replace hf := bnE hf
  obtain ⟨n71, e_n71, hf⟩ := hf
  replace hf := ckE hf
  obtain ⟨c69, hf⟩ := hf
  refine nd_newI (n := n71) (z := 120) dX6_init_158 (by decide +kernel) (by decide) (Nat.le_of_ble_eq_true rfl) c69 ?_
  replace hf := bnE hf
  obtain ⟨h70, e_h70, hf⟩ := hf
  refine nd_hp e_h70 ?_
  have k_n71 : nd_Kd n71 = 20 := (freAE c69).2.1
  refine nd_putF (k := 31) (f := 631) dX6_init_160 k_this rfl (Nat.le_of_ble_eq_true rfl) q1371 rfl rfl rfl rfl rfl (fun b e => by cases e; rw [k_n71]; rfl) ?_
  replace hf := bnE hf
  obtain ⟨h72, e_h72, hf⟩ := hf
  refine nd_hp e_h72 ?_
  refine nd_aload_n (j := 0) dX6_init_163 rfl rfl ?_
  refine nd_bipush (v := 120) dX6_init_164 (by decide) ?_
  replace hf := bnE hf
  obtain ⟨n75, e_n75, hf⟩ := hf
  replace hf := ckE hf
  obtain ⟨c73, hf⟩ := hf
  refine nd_newI (n := n75) (z := 120) dX6_init_166 (by decide +kernel) (by decide) (Nat.le_of_ble_eq_true rfl) c73 ?_
  replace hf := bnE hf
  obtain ⟨h74, e_h74, hf⟩ := hf
  refine nd_hp e_h74 ?_
  have k_n75 : nd_Kd n75 = 20 := (freAE c73).2.1
  refine nd_putF (k := 32) (f := 632) dX6_init_168 k_this rfl (Nat.le_of_ble_eq_true rfl) q1372 rfl rfl rfl rfl rfl (fun b e => by cases e; rw [k_n75]; rfl) ?_
  replace hf := bnE hf
  obtain ⟨h76, e_h76, hf⟩ := hf
  refine nd_hp e_h76 ?_
  refine nd_aload_n (j := 0) dX6_init_171 rfl rfl ?_
  refine nd_sipush (v := 4000) dX6_init_172 (by decide) ?_
  replace hf := bnE hf
  obtain ⟨n79, e_n79, hf⟩ := hf
  replace hf := ckE hf
  obtain ⟨c77, hf⟩ := hf
  refine nd_newI (n := n79) (z := 4000) dX6_init_175 (by decide +kernel) (by decide) (Nat.le_of_ble_eq_true rfl) c77 ?_
  replace hf := bnE hf
  obtain ⟨h78, e_h78, hf⟩ := hf
  refine nd_hp e_h78 ?_
  have k_n79 : nd_Kd n79 = 20 := (freAE c77).2.1
  refine nd_putF (k := 33) (f := 633) dX6_init_177 k_this rfl (Nat.le_of_ble_eq_true rfl) q1373 rfl rfl rfl rfl rfl (fun b e => by cases e; rw [k_n79]; rfl) ?_
  replace hf := bnE hf
  obtain ⟨h80, e_h80, hf⟩ := hf
  refine nd_hp e_h80 ?_
  refine nd_aload_n (j := 0) dX6_init_180 rfl rfl ?_
  refine nd_bipush (v := 100) dX6_init_181 (by decide) ?_
  replace hf := bnE hf
  obtain ⟨n83, e_n83, hf⟩ := hf
  replace hf := ckE hf
  obtain ⟨c81, hf⟩ := hf
  refine nd_newI (n := n83) (z := 100) dX6_init_183 (by decide +kernel) (by decide) (Nat.le_of_ble_eq_true rfl) c81 ?_
  replace hf := bnE hf
  obtain ⟨h82, e_h82, hf⟩ := hf
  refine nd_hp e_h82 ?_
  have k_n83 : nd_Kd n83 = 20 := (freAE c81).2.1
  refine nd_putF (k := 36) (f := 636) dX6_init_185 k_this rfl (Nat.le_of_ble_eq_true rfl) q1376 rfl rfl rfl rfl rfl (fun b e => by cases e; rw [k_n83]; rfl) ?_
  replace hf := bnE hf
  obtain ⟨h84, e_h84, hf⟩ := hf
  refine nd_hp e_h84 ?_
  refine nd_aload_n (j := 0) dX6_init_188 rfl rfl ?_
  refine nd_bipush (v := 100) dX6_init_189 (by decide) ?_
  replace hf := bnE hf
  obtain ⟨n87, e_n87, hf⟩ := hf
  replace hf := ckE hf
  obtain ⟨c85, hf⟩ := hf
  refine nd_newI (n := n87) (z := 100) dX6_init_191 (by decide +kernel) (by decide) (Nat.le_of_ble_eq_true rfl) c85 ?_
  replace hf := bnE hf
  obtain ⟨h86, e_h86, hf⟩ := hf
  refine nd_hp e_h86 ?_
  have k_n87 : nd_Kd n87 = 20 := (freAE c85).2.1
  refine nd_putF (k := 37) (f := 637) dX6_init_193 k_this rfl (Nat.le_of_ble_eq_true rfl) q1377 rfl rfl rfl rfl rfl (fun b e => by cases e; rw [k_n87]; rfl) ?_
  replace hf := bnE hf
  obtain ⟨h88, e_h88, hf⟩ := hf
  refine nd_hp e_h88 ?_
  refine nd_aload_n (j := 0) dX6_init_196 rfl rfl ?_
  refine nd_bipush (v := 100) dX6_init_197 (by decide) ?_
  replace hf := bnE hf
  obtain ⟨n91, e_n91, hf⟩ := hf
  replace hf := ckE hf
  obtain ⟨c89, hf⟩ := hf
  refine nd_newI (n := n91) (z := 100) dX6_init_199 (by decide +kernel) (by decide) (Nat.le_of_ble_eq_true rfl) c89 ?_
  replace hf := bnE hf
  obtain ⟨h90, e_h90, hf⟩ := hf
  refine nd_hp e_h90 ?_
  have k_n91 : nd_Kd n91 = 20 := (freAE c89).2.1
  refine nd_putF (k := 38) (f := 638) dX6_init_201 k_this rfl (Nat.le_of_ble_eq_true rfl) q1378 rfl rfl rfl rfl rfl (fun b e => by cases e; rw [k_n91]; rfl) ?_
  replace hf := bnE hf
  obtain ⟨h92, e_h92, hf⟩ := hf
  refine nd_hp e_h92 ?_
  refine nd_aload_n (j := 0) dX6_init_204 rfl rfl ?_
  refine nd_bipush (v := 100) dX6_init_205 (by decide) ?_
  replace hf := bnE hf
  obtain ⟨n95, e_n95, hf⟩ := hf
  replace hf := ckE hf
  obtain ⟨c93, hf⟩ := hf
  refine nd_newI (n := n95) (z := 100) dX6_init_207 (by decide +kernel) (by decide) (Nat.le_of_ble_eq_true rfl) c93 ?_
  replace hf := bnE hf
  obtain ⟨h94, e_h94, hf⟩ := hf
  refine nd_hp e_h94 ?_
  have k_n95 : nd_Kd n95 = 20 := (freAE c93).2.1
  refine nd_putF (k := 39) (f := 639) dX6_init_209 k_this rfl (Nat.le_of_ble_eq_true rfl) q1379 rfl rfl rfl rfl rfl (fun b e => by cases e; rw [k_n95]; rfl) ?_
  replace hf := bnE hf
  obtain ⟨h96, e_h96, hf⟩ := hf
  refine nd_hp e_h96 ?_
  refine nd_aload_n (j := 0) dX6_init_212 rfl rfl ?_
  refine nd_bipush (v := 100) dX6_init_213 (by decide) ?_
  replace hf := bnE hf
  obtain ⟨n99, e_n99, hf⟩ := hf
  replace hf := ckE hf
  obtain ⟨c97, hf⟩ := hf
  refine nd_newI (n := n99) (z := 100) dX6_init_215 (by decide +kernel) (by decide) (Nat.le_of_ble_eq_true rfl) c97 ?_
  replace hf := bnE hf
  obtain ⟨h98, e_h98, hf⟩ := hf
  refine nd_hp e_h98 ?_
  have k_n99 : nd_Kd n99 = 20 := (freAE c97).2.1
  refine nd_putF (k := 40) (f := 640) dX6_init_217 k_this rfl (Nat.le_of_ble_eq_true rfl) q1380 rfl rfl rfl rfl rfl (fun b e => by cases e; rw [k_n99]; rfl) ?_
  replace hf := bnE hf
  obtain ⟨h100, e_h100, hf⟩ := hf
  refine nd_hp e_h100 ?_
  refine nd_aload_n (j := 0) dX6_init_220 rfl rfl ?_
  refine nd_bipush (v := 100) dX6_init_221 (by decide) ?_
  replace hf := bnE hf
  obtain ⟨n103, e_n103, hf⟩ := hf
  replace hf := ckE hf
  obtain ⟨c101, hf⟩ := hf
  refine nd_newI (n := n103) (z := 100) dX6_init_223 (by decide +kernel) (by decide) (Nat.le_of_ble_eq_true rfl) c101 ?_
  replace hf := bnE hf
  obtain ⟨h102, e_h102, hf⟩ := hf
  refine nd_hp e_h102 ?_
  have k_n103 : nd_Kd n103 = 20 := (freAE c101).2.1
  refine nd_putF (k := 41) (f := 641) dX6_init_225 k_this rfl (Nat.le_of_ble_eq_true rfl) q1381 rfl rfl rfl rfl rfl (fun b e => by cases e; rw [k_n103]; rfl) ?_
  replace hf := bnE hf
  obtain ⟨h104, e_h104, hf⟩ := hf
  refine nd_hp e_h104 ?_
  refine nd_aload_n (j := 0) dX6_init_228 rfl rfl ?_
  refine nd_bipush (v := 101) dX6_init_229 (by decide) ?_
  replace hf := bnE hf
  obtain ⟨n107, e_n107, hf⟩ := hf
  replace hf := ckE hf
  obtain ⟨c105, hf⟩ := hf
  refine nd_newI (n := n107) (z := 101) dX6_init_231 (by decide +kernel) (by decide) (Nat.le_of_ble_eq_true rfl) c105 ?_
  replace hf := bnE hf
  obtain ⟨h106, e_h106, hf⟩ := hf
  refine nd_hp e_h106 ?_
  have k_n107 : nd_Kd n107 = 20 := (freAE c105).2.1
  refine nd_putF (k := 42) (f := 642) dX6_init_233 k_this rfl (Nat.le_of_ble_eq_true rfl) q1382 rfl rfl rfl rfl rfl (fun b e => by cases e; rw [k_n107]; rfl) ?_
  replace hf := bnE hf
  obtain ⟨h108, e_h108, hf⟩ := hf
  refine nd_hp e_h108 ?_
  refine nd_aload_n (j := 0) dX6_init_236 rfl rfl ?_
  refine nd_sipush (v := 240) dX6_init_237 (by decide) ?_
  replace hf := bnE hf
  obtain ⟨n111, e_n111, hf⟩ := hf
  replace hf := ckE hf
  obtain ⟨c109, hf⟩ := hf
  refine nd_newI (n := n111) (z := 240) dX6_init_240 (by decide +kernel) (by decide) (Nat.le_of_ble_eq_true rfl) c109 ?_
  replace hf := bnE hf
  obtain ⟨h110, e_h110, hf⟩ := hf
  refine nd_hp e_h110 ?_
  have k_n111 : nd_Kd n111 = 20 := (freAE c109).2.1
  refine nd_putF (k := 43) (f := 643) dX6_init_242 k_this rfl (Nat.le_of_ble_eq_true rfl) q1383 rfl rfl rfl rfl rfl (fun b e => by cases e; rw [k_n111]; rfl) ?_
  replace hf := bnE hf
  obtain ⟨h112, e_h112, hf⟩ := hf
  refine nd_hp e_h112 ?_
  refine nd_aload_n (j := 0) dX6_init_245 rfl rfl ?_
  refine nd_sipush (v := 500) dX6_init_246 (by decide) ?_
  replace hf := bnE hf
  obtain ⟨n115, e_n115, hf⟩ := hf
  replace hf := ckE hf
  obtain ⟨c113, hf⟩ := hf
  refine nd_newI (n := n115) (z := 500) dX6_init_249 (by decide +kernel) (by decide) (Nat.le_of_ble_eq_true rfl) c113 ?_
  replace hf := bnE hf
  obtain ⟨h114, e_h114, hf⟩ := hf
  refine nd_hp e_h114 ?_
  have k_n115 : nd_Kd n115 = 20 := (freAE c113).2.1
  refine nd_putF (k := 45) (f := 645) dX6_init_251 k_this rfl (Nat.le_of_ble_eq_true rfl) q1385 rfl rfl rfl rfl rfl (fun b e => by cases e; rw [k_n115]; rfl) ?_
  replace hf := bnE hf
  obtain ⟨h116, e_h116, hf⟩ := hf
  refine nd_hp e_h116 ?_
  refine nd_aload_n (j := 0) dX6_init_254 rfl rfl ?_
  refine nd_sipush (v := 240) dX6_init_255 (by decide) ?_
  replace hf := bnE hf
  obtain ⟨n119, e_n119, hf⟩ := hf
  replace hf := ckE hf
  obtain ⟨c117, hf⟩ := hf
  refine nd_newI (n := n119) (z := 240) dX6_init_258 (by decide +kernel) (by decide) (Nat.le_of_ble_eq_true rfl) c117 ?_
  replace hf := bnE hf
  obtain ⟨h118, e_h118, hf⟩ := hf
  refine nd_hp e_h118 ?_
  have k_n119 : nd_Kd n119 = 20 := (freAE c117).2.1
  refine nd_putF (k := 46) (f := 646) dX6_init_260 k_this rfl (Nat.le_of_ble_eq_true rfl) q1386 rfl rfl rfl rfl rfl (fun b e => by cases e; rw [k_n119]; rfl) ?_
  replace hf := bnE hf
  obtain ⟨h120, e_h120, hf⟩ := hf
  refine nd_hp e_h120 ?_
  refine nd_aload_n (j := 0) dX6_init_263 rfl rfl ?_
  refine nd_sipush (v := 160) dX6_init_264 (by decide) ?_
  replace hf := bnE hf
  obtain ⟨n123, e_n123, hf⟩ := hf
  replace hf := ckE hf
  obtain ⟨c121, hf⟩ := hf
  refine nd_newI (n := n123) (z := 160) dX6_init_267 (by decide +kernel) (by decide) (Nat.le_of_ble_eq_true rfl) c121 ?_
  replace hf := bnE hf
  obtain ⟨h122, e_h122, hf⟩ := hf
  refine nd_hp e_h122 ?_
  have k_n123 : nd_Kd n123 = 20 := (freAE c121).2.1
  refine nd_putF (k := 50) (f := 650) dX6_init_269 k_this rfl (Nat.le_of_ble_eq_true rfl) q1390 rfl rfl rfl rfl rfl (fun b e => by cases e; rw [k_n123]; rfl) ?_
  replace hf := bnE hf
  obtain ⟨h124, e_h124, hf⟩ := hf
  refine nd_hp e_h124 ?_
  refine nd_aload_n (j := 0) dX6_init_272 rfl rfl ?_
  refine nd_sipush (v := 160) dX6_init_273 (by decide) ?_
  replace hf := bnE hf
  obtain ⟨n127, e_n127, hf⟩ := hf
  replace hf := ckE hf
  obtain ⟨c125, hf⟩ := hf
  refine nd_newI (n := n127) (z := 160) dX6_init_276 (by decide +kernel) (by decide) (Nat.le_of_ble_eq_true rfl) c125 ?_
  replace hf := bnE hf
  obtain ⟨h126, e_h126, hf⟩ := hf
  refine nd_hp e_h126 ?_
  have k_n127 : nd_Kd n127 = 20 := (freAE c125).2.1
  refine nd_putF (k := 51) (f := 651) dX6_init_278 k_this rfl (Nat.le_of_ble_eq_true rfl) q1391 rfl rfl rfl rfl rfl (fun b e => by cases e; rw [k_n127]; rfl) ?_
  replace hf := bnE hf
  obtain ⟨h128, e_h128, hf⟩ := hf
  refine nd_hp e_h128 ?_
  refine nd_aload_n (j := 0) dX6_init_281 rfl rfl ?_
  refine nd_sipush (v := 160) dX6_init_282 (by decide) ?_
  replace hf := bnE hf
  obtain ⟨n131, e_n131, hf⟩ := hf
  replace hf := ckE hf
  obtain ⟨c129, hf⟩ := hf
  refine nd_newI (n := n131) (z := 160) dX6_init_285 (by decide +kernel) (by decide) (Nat.le_of_ble_eq_true rfl) c129 ?_
  replace hf := bnE hf
  obtain ⟨h130, e_h130, hf⟩ := hf
  refine nd_hp e_h130 ?_
  have k_n131 : nd_Kd n131 = 20 := (freAE c129).2.1
  refine nd_putF (k := 52) (f := 652) dX6_init_287 k_this rfl (Nat.le_of_ble_eq_true rfl) q1392 rfl rfl rfl rfl rfl (fun b e => by cases e; rw [k_n131]; rfl) ?_
  replace hf := bnE hf
  obtain ⟨h132, e_h132, hf⟩ := hf
  refine nd_hp e_h132 ?_
  refine nd_aload_n (j := 0) dX6_init_290 rfl rfl ?_
  refine nd_sipush (v := 160) dX6_init_291 (by decide) ?_
  replace hf := bnE hf
  obtain ⟨n135, e_n135, hf⟩ := hf
  replace hf := ckE hf
  obtain ⟨c133, hf⟩ := hf
  refine nd_newI (n := n135) (z := 160) dX6_init_294 (by decide +kernel) (by decide) (Nat.le_of_ble_eq_true rfl) c133 ?_
  replace hf := bnE hf
  obtain ⟨h134, e_h134, hf⟩ := hf
  refine nd_hp e_h134 ?_
  have k_n135 : nd_Kd n135 = 20 := (freAE c133).2.1
  refine nd_putF (k := 53) (f := 653) dX6_init_296 k_this rfl (Nat.le_of_ble_eq_true rfl) q1393 rfl rfl rfl rfl rfl (fun b e => by cases e; rw [k_n135]; rfl) ?_
  replace hf := bnE hf
  obtain ⟨h136, e_h136, hf⟩ := hf
  refine nd_hp e_h136 ?_
  refine nd_aload_n (j := 0) dX6_init_299 rfl rfl ?_
  refine nd_sipush (v := 160) dX6_init_300 (by decide) ?_
  replace hf := bnE hf
  obtain ⟨n139, e_n139, hf⟩ := hf
  replace hf := ckE hf
  obtain ⟨c137, hf⟩ := hf
  refine nd_newZ (n := n139) (z := 160) dX6_init_303 (by decide +kernel) (by decide) (Nat.le_of_ble_eq_true rfl) c137 ?_
  replace hf := bnE hf
  obtain ⟨h138, e_h138, hf⟩ := hf
  refine nd_hp e_h138 ?_
  have k_n139 : nd_Kd n139 = 22 := (freAE c137).2.1
  refine nd_putF (k := 54) (f := 654) dX6_init_305 k_this rfl (Nat.le_of_ble_eq_true rfl) q1394 rfl rfl rfl rfl rfl (fun b e => by cases e; rw [k_n139]; rfl) ?_
  replace hf := bnE hf
  obtain ⟨h140, e_h140, hf⟩ := hf
  refine nd_hp e_h140 ?_
  refine nd_aload_n (j := 0) dX6_init_308 rfl rfl ?_
  refine nd_bipush (v := 8) dX6_init_309 (by decide) ?_
  replace hf := bnE hf
  obtain ⟨n143, e_n143, hf⟩ := hf
  replace hf := ckE hf
  obtain ⟨c141, hf⟩ := hf
  refine nd_newI (n := n143) (z := 8) dX6_init_311 (by decide +kernel) (by decide) (Nat.le_of_ble_eq_true rfl) c141 ?_
  replace hf := bnE hf
  obtain ⟨h142, e_h142, hf⟩ := hf
  refine nd_hp e_h142 ?_
  have k_n143 : nd_Kd n143 = 20 := (freAE c141).2.1
  refine nd_putF (k := 55) (f := 655) dX6_init_313 k_this rfl (Nat.le_of_ble_eq_true rfl) q1395 rfl rfl rfl rfl rfl (fun b e => by cases e; rw [k_n143]; rfl) ?_
  replace hf := bnE hf
  obtain ⟨h144, e_h144, hf⟩ := hf
  refine nd_hp e_h144 ?_
  refine nd_aload_n (j := 0) dX6_init_316 rfl rfl ?_
  refine nd_bipush (v := 8) dX6_init_317 (by decide) ?_
  replace hf := bnE hf
  obtain ⟨n147, e_n147, hf⟩ := hf
  replace hf := ckE hf
  obtain ⟨c145, hf⟩ := hf
  refine nd_newI (n := n147) (z := 8) dX6_init_319 (by decide +kernel) (by decide) (Nat.le_of_ble_eq_true rfl) c145 ?_
  replace hf := bnE hf
  obtain ⟨h146, e_h146, hf⟩ := hf
  refine nd_hp e_h146 ?_
  have k_n147 : nd_Kd n147 = 20 := (freAE c145).2.1
  refine nd_putF (k := 56) (f := 656) dX6_init_321 k_this rfl (Nat.le_of_ble_eq_true rfl) q1396 rfl rfl rfl rfl rfl (fun b e => by cases e; rw [k_n147]; rfl) ?_
  replace hf := bnE hf
  obtain ⟨h148, e_h148, hf⟩ := hf
  refine nd_hp e_h148 ?_
  refine nd_aload_n (j := 0) dX6_init_324 rfl rfl ?_
  refine nd_bipush (v := 8) dX6_init_325 (by decide) ?_
  replace hf := bnE hf
  obtain ⟨n151, e_n151, hf⟩ := hf
  replace hf := ckE hf
  obtain ⟨c149, hf⟩ := hf
  refine nd_newI (n := n151) (z := 8) dX6_init_327 (by decide +kernel) (by decide) (Nat.le_of_ble_eq_true rfl) c149 ?_
  replace hf := bnE hf
  obtain ⟨h150, e_h150, hf⟩ := hf
  refine nd_hp e_h150 ?_
  have k_n151 : nd_Kd n151 = 20 := (freAE c149).2.1
  refine nd_putF (k := 57) (f := 657) dX6_init_329 k_this rfl (Nat.le_of_ble_eq_true rfl) q1397 rfl rfl rfl rfl rfl (fun b e => by cases e; rw [k_n151]; rfl) ?_
  replace hf := bnE hf
  obtain ⟨h152, e_h152, hf⟩ := hf
  refine nd_hp e_h152 ?_
  refine nd_aload_n (j := 0) dX6_init_332 rfl rfl ?_
  refine nd_sipush (v := 256) dX6_init_333 (by decide) ?_
  replace hf := bnE hf
  obtain ⟨n155, e_n155, hf⟩ := hf
  replace hf := ckE hf
  obtain ⟨c153, hf⟩ := hf
  refine nd_newZ (n := n155) (z := 256) dX6_init_336 (by decide +kernel) (by decide) (Nat.le_of_ble_eq_true rfl) c153 ?_
  replace hf := bnE hf
  obtain ⟨h154, e_h154, hf⟩ := hf
  refine nd_hp e_h154 ?_
  have k_n155 : nd_Kd n155 = 22 := (freAE c153).2.1
  refine nd_putF (k := 58) (f := 658) dX6_init_338 k_this rfl (Nat.le_of_ble_eq_true rfl) q1398 rfl rfl rfl rfl rfl (fun b e => by cases e; rw [k_n155]; rfl) ?_
  replace hf := bnE hf
  obtain ⟨h156, e_h156, hf⟩ := hf
  refine nd_hp e_h156 ?_
  refine nd_aload_n (j := 0) dX6_init_341 rfl rfl ?_
  replace hf := cvE hf
  obtain ⟨h157, e_h157, hf⟩ := hf
  refine nd_Vv [] (tX6_leave l w hfl F d k_this e_h157) rfl dX6_init_342 mw_X6_leave (Or.inl q1336) k_this rfl q1338 qs29 (by omega) (by omega) (Nat.le_of_ble_eq_true rfl) ?_
  cases hf
  exact nd_vret dX6_init_345
def fX6_thrown (F d : Nat) (this : Nat) (h : Hp) : Option (Int32 × Hp) :=
  some ((gI h 600 this), h)
theorem mw_X6_thrown : nd_MW yX6_thrown cX6_thrown 1 (some .int) 0 := ⟨q1521, q91, by decide, by decide, by decide +kernel⟩
set_option maxHeartbeats 4000000 in
theorem tX6_thrown (l : Launch) (w : Wd) (hfl : l.stackTraces = false) (F d : Nat) {this : Nat} (k_this : nd_Kd this = 5) {h : Hp} {r : Int32 × Hp} (hf : fX6_thrown F d this h = some r) : nd_C l w yX6_thrown cX6_thrown 1 (some .int) 0 0 [vr (some this)] h (.inl (some (vi r.1)), r.2) := by
  refine nd_start (as := [vr (some this)]) hfl (by decide) (Nat.le_of_ble_eq_true rfl) ?_
  unfold fX6_thrown at hf
  refine nd_eqL (L' := [(0, vr (some this))]) rfl ?_
  refine nd_aload_n (j := 0) dX6_thrown_0 rfl rfl ?_
  refine nd_getI (k := 0) dX6_thrown_1 k_this rfl (Nat.le_of_ble_eq_true rfl) (nd_flO q1340) rfl ?_
  cases hf
  exact nd_iret (v := (gI h 600 this)) dX6_thrown_4
def fX6_type (F d : Nat) (this : Nat) (p0 : Int32) (h : Hp) : Option (Int32 × Hp) :=
  bn (sI h 600 this 0) fun h1 => (
  if (gI h1 602 this) = 150 then
  (some (0, h1))
  else
  (nn (gP h1 607 this) fun a4 => (
  ck (inb (gI h1 602 this) (nd_Ln a4)) (
  ck (isCh p0) (
  bn (sA h1 a4 (Int32.toNatClampNeg (gI h1 602 this)) p0) fun h6 => (
  bn (sI h6 602 this ((gI h6 602 this) + 1)) fun h8 => (
  cv (fX6_leave F d this h8) fun h9 => (
  some (1, h9)))))))))
theorem mw_X6_type : nd_MW yX6_type cX6_type 2 (some .boolean) 1 := ⟨q1525, q91, by decide, by decide, by decide +kernel⟩
set_option maxHeartbeats 4000000 in
theorem tX6_type (l : Launch) (w : Wd) (hfl : l.stackTraces = false) (F d : Nat) {this : Nat} {p0 : Int32} (k_this : nd_Kd this = 5) {h : Hp} {r : Int32 × Hp} (hf : fX6_type F d this p0 h = some r) : nd_C l w yX6_type cX6_type 2 (some .boolean) 1 21 [vr (some this), vi p0] h (.inl (some (vi r.1)), r.2) := by
  refine nd_start (as := [vr (some this), vi p0]) hfl (by decide) (Nat.le_of_ble_eq_true rfl) ?_
  unfold fX6_type at hf
  refine nd_eqL (L' := [(0, vr (some this)), (1, vi p0)]) rfl ?_
  refine nd_aload_n (j := 0) dX6_type_0 rfl rfl ?_
  refine nd_iconst (v := 0) dX6_type_1 (by decide) ?_
  refine nd_putN (k := 0) dX6_type_2 k_this rfl (Nat.le_of_ble_eq_true rfl) (nd_flO q1340) rfl rfl rfl ?_
  replace hf := bnE hf
  obtain ⟨h1, e_h1, hf⟩ := hf
  refine nd_hp e_h1 ?_
  refine nd_aload_n (j := 0) dX6_type_5 rfl rfl ?_
  refine nd_getI (k := 2) dX6_type_6 k_this rfl (Nat.le_of_ble_eq_true rfl) (nd_flO q1342) rfl ?_
  refine nd_sipush (v := 150) dX6_type_9 (by decide) ?_
  refine nd_icmp_ne (tgt := 17) dX6_type_12 (by decide) (fun c2 => ?_) (fun c2 => ?_)
  · replace hf := ifn c2 hf
    refine nd_aload_n (j := 0) dX6_type_17 rfl rfl ?_
    refine nd_getP (k := 7) dX6_type_18 k_this rfl (Nat.le_of_ble_eq_true rfl) (nd_flO q1347) rfl (fun ok3 => ?_)
    replace hf := nnE hf
    obtain ⟨a4, e_a4, hf⟩ := hf
    refine nd_topr e_a4.symm ?_
    have k_a4 : nd_Kd a4 = 21 := nd_c1 (ok3 a4 e_a4)
    refine nd_aload_n (j := 0) dX6_type_21 rfl rfl ?_
    refine nd_getI (k := 2) dX6_type_22 k_this rfl (Nat.le_of_ble_eq_true rfl) (nd_flO q1342) rfl ?_
    refine nd_iload_n (j := 1) dX6_type_25 rfl rfl ?_
    replace hf := ckE hf
    obtain ⟨c5, hf⟩ := hf
    replace hf := ckE hf
    obtain ⟨c7, hf⟩ := hf
    refine nd_cast dX6_type_26 k_a4 c5 c7 ?_
    replace hf := bnE hf
    obtain ⟨h6, e_h6, hf⟩ := hf
    refine nd_hp e_h6 ?_
    refine nd_aload_n (j := 0) dX6_type_27 rfl rfl ?_
    refine nd_dup dX6_type_28 rfl ?_
    refine nd_getI (k := 2) dX6_type_29 k_this rfl (Nat.le_of_ble_eq_true rfl) (nd_flO q1342) rfl ?_
    refine nd_iconst (v := 1) dX6_type_32 (by decide) ?_
    refine nd_iadd dX6_type_33 ?_
    refine nd_putN (k := 2) dX6_type_34 k_this rfl (Nat.le_of_ble_eq_true rfl) (nd_flO q1342) rfl rfl rfl ?_
    replace hf := bnE hf
    obtain ⟨h8, e_h8, hf⟩ := hf
    refine nd_hp e_h8 ?_
    refine nd_aload_n (j := 0) dX6_type_37 rfl rfl ?_
    replace hf := cvE hf
    obtain ⟨h9, e_h9, hf⟩ := hf
    refine nd_Vv [] (tX6_leave l w hfl F d k_this e_h9) rfl dX6_type_38 mw_X6_leave (Or.inl q1336) k_this rfl q1338 qs29 (by omega) (by omega) (Nat.le_of_ble_eq_true rfl) ?_
    refine nd_iconst (v := 1) dX6_type_41 (by decide) ?_
    cases hf
    exact nd_zret (v := 1) (by decide) dX6_type_42
  · replace hf := ifp c2 hf
    refine nd_iconst (v := 0) dX6_type_15 (by decide) ?_
    cases hf
    exact nd_zret (v := 0) (by decide) dX6_type_16
def fX6_clear (F d : Nat) (this : Nat) (h : Hp) : Option (Int32 × Hp) :=
  bn (gI h 602 this) fun v1 => (
  bn (sI h 600 this 0) fun h2 => (
  bn (sI h2 602 this 0) fun h3 => (
  cv (fX6_leave F d this h3) fun h4 => (
  some (v1, h4)))))
theorem mw_X6_clear : nd_MW yX6_clear cX6_clear 2 (some .int) 0 := ⟨q1529, q91, by decide, by decide, by decide +kernel⟩
set_option maxHeartbeats 4000000 in
theorem tX6_clear (l : Launch) (w : Wd) (hfl : l.stackTraces = false) (F d : Nat) {this : Nat} (k_this : nd_Kd this = 5) {h : Hp} {r : Int32 × Hp} (hf : fX6_clear F d this h = some r) : nd_C l w yX6_clear cX6_clear 2 (some .int) 1 21 [vr (some this)] h (.inl (some (vi r.1)), r.2) := by
  refine nd_start (as := [vr (some this)]) hfl (by decide) (Nat.le_of_ble_eq_true rfl) ?_
  unfold fX6_clear at hf
  refine nd_eqL (L' := [(0, vr (some this))]) rfl ?_
  refine nd_aload_n (j := 0) dX6_clear_0 rfl rfl ?_
  refine nd_getI (k := 2) dX6_clear_1 k_this rfl (Nat.le_of_ble_eq_true rfl) (nd_flO q1342) rfl ?_
  replace hf := bnE hf
  obtain ⟨v1, e_v1, hf⟩ := hf
  refine nd_top e_v1 ?_
  refine nd_istore_n [(1, vi v1), (0, vr (some this))] dX6_clear_4 rfl (Nat.le_of_ble_eq_true rfl) rfl ?_
  refine nd_aload_n (j := 1) dX6_clear_5 rfl rfl ?_
  refine nd_iconst (v := 0) dX6_clear_6 (by decide) ?_
  refine nd_putN (k := 0) dX6_clear_7 k_this rfl (Nat.le_of_ble_eq_true rfl) (nd_flO q1340) rfl rfl rfl ?_
  replace hf := bnE hf
  obtain ⟨h2, e_h2, hf⟩ := hf
  refine nd_hp e_h2 ?_
  refine nd_aload_n (j := 1) dX6_clear_10 rfl rfl ?_
  refine nd_iconst (v := 0) dX6_clear_11 (by decide) ?_
  refine nd_putN (k := 2) dX6_clear_12 k_this rfl (Nat.le_of_ble_eq_true rfl) (nd_flO q1342) rfl rfl rfl ?_
  replace hf := bnE hf
  obtain ⟨h3, e_h3, hf⟩ := hf
  refine nd_hp e_h3 ?_
  refine nd_aload_n (j := 1) dX6_clear_15 rfl rfl ?_
  replace hf := cvE hf
  obtain ⟨h4, e_h4, hf⟩ := hf
  refine nd_Vv [] (tX6_leave l w hfl F d k_this e_h4) rfl dX6_clear_16 mw_X6_leave (Or.inl q1336) k_this rfl q1338 qs29 (by omega) (by omega) (Nat.le_of_ble_eq_true rfl) ?_
  refine nd_iload_n (j := 0) dX6_clear_19 rfl rfl ?_
  cases hf
  exact nd_iret (v := v1) dX6_clear_20
def fX6_look (F d : Nat) (this : Nat) (h : Hp) : Option (Int32 × Hp) :=
  if (gI h 602 this) ≤ (gI h 603 this) then
  (some ((-1), h))
  else
  (nn (gP h 607 this) fun a3 => (
  ck (inb (gI h 603 this) (nd_Ln a3)) (
  some ((gA h a3 (Int32.toNatClampNeg (gI h 603 this))), h))))
theorem mw_X6_look : nd_MW yX6_look cX6_look 1 (some .int) 0 := ⟨q1541, q91, by decide, by decide, by decide +kernel⟩
set_option maxHeartbeats 4000000 in
theorem tX6_look (l : Launch) (w : Wd) (hfl : l.stackTraces = false) (F d : Nat) {this : Nat} (k_this : nd_Kd this = 5) {h : Hp} {r : Int32 × Hp} (hf : fX6_look F d this h = some r) : nd_C l w yX6_look cX6_look 1 (some .int) 0 0 [vr (some this)] h (.inl (some (vi r.1)), r.2) := by
  refine nd_start (as := [vr (some this)]) hfl (by decide) (Nat.le_of_ble_eq_true rfl) ?_
  unfold fX6_look at hf
  refine nd_eqL (L' := [(0, vr (some this))]) rfl ?_
  refine nd_aload_n (j := 0) dX6_look_0 rfl rfl ?_
  refine nd_getI (k := 3) dX6_look_1 k_this rfl (Nat.le_of_ble_eq_true rfl) (nd_flO q1343) rfl ?_
  refine nd_aload_n (j := 0) dX6_look_4 rfl rfl ?_
  refine nd_getI (k := 2) dX6_look_5 k_this rfl (Nat.le_of_ble_eq_true rfl) (nd_flO q1342) rfl ?_
  refine nd_icmp_ge (tgt := 23) dX6_look_8 (by decide) (fun c1 => ?_) (fun c1 => ?_)
  · replace hf := ifp c1 hf
    refine nd_iconst (v := (-1)) dX6_look_23 (by decide) ?_
    cases hf
    exact nd_iret (v := (-1)) dX6_look_24
  · replace hf := ifn c1 hf
    refine nd_aload_n (j := 0) dX6_look_11 rfl rfl ?_
    refine nd_getP (k := 7) dX6_look_12 k_this rfl (Nat.le_of_ble_eq_true rfl) (nd_flO q1347) rfl (fun ok2 => ?_)
    replace hf := nnE hf
    obtain ⟨a3, e_a3, hf⟩ := hf
    refine nd_topr e_a3.symm ?_
    have k_a3 : nd_Kd a3 = 21 := nd_c1 (ok2 a3 e_a3)
    refine nd_aload_n (j := 0) dX6_look_15 rfl rfl ?_
    refine nd_getI (k := 3) dX6_look_16 k_this rfl (Nat.le_of_ble_eq_true rfl) (nd_flO q1343) rfl ?_
    replace hf := ckE hf
    obtain ⟨c4, hf⟩ := hf
    refine nd_cald dX6_look_19 k_a3 c4 ?_
    refine nd_goto (tgt := 24) dX6_look_20 (by decide) ?_
    cases hf
    exact nd_iret (v := (gA h a3 (Int32.toNatClampNeg (gI h 603 this)))) dX6_look_24
def fX6_in (F d : Nat) (p0 : Int32) (p1 : Int32) (p2 : Int32) (h : Hp) : Option (Int32 × Hp) :=
  if p0 < p1 then
  (some (0, h))
  else
  (if p2 < p0 then
  (some (0, h))
  else
  (some (1, h)))
theorem mw_X6_in : nd_MW yX6_in cX6_in 3 (some .boolean) 3 := ⟨q1544, q91, by decide, by decide, by decide +kernel⟩
set_option maxHeartbeats 4000000 in
theorem tX6_in (l : Launch) (w : Wd) (hfl : l.stackTraces = false) (F d : Nat) {p0 : Int32} {p1 : Int32} {p2 : Int32}  {h : Hp} {r : Int32 × Hp} (hf : fX6_in F d p0 p1 p2 h = some r) : nd_C l w yX6_in cX6_in 3 (some .boolean) 0 0 [vi p0, vi p1, vi p2] h (.inl (some (vi r.1)), r.2) := by
  refine nd_start (as := [vi p0, vi p1, vi p2]) hfl (by decide) (Nat.le_of_ble_eq_true rfl) ?_
  unfold fX6_in at hf
  refine nd_eqL (L' := [(0, vi p0), (1, vi p1), (2, vi p2)]) rfl ?_
  refine nd_iload_n (j := 0) dX6_in_0 rfl rfl ?_
  refine nd_iload_n (j := 1) dX6_in_1 rfl rfl ?_
  refine nd_icmp_lt (tgt := 14) dX6_in_2 (by decide) (fun c1 => ?_) (fun c1 => ?_)
  · replace hf := ifp c1 hf
    refine nd_iconst (v := 0) dX6_in_14 (by decide) ?_
    cases hf
    exact nd_zret (v := 0) (by decide) dX6_in_15
  · replace hf := ifn c1 hf
    refine nd_iload_n (j := 0) dX6_in_5 rfl rfl ?_
    refine nd_iload_n (j := 2) dX6_in_6 rfl rfl ?_
    refine nd_icmp_gt (tgt := 14) dX6_in_7 (by decide) (fun c2 => ?_) (fun c2 => ?_)
    · replace hf := ifp c2 hf
      refine nd_iconst (v := 0) dX6_in_14 (by decide) ?_
      cases hf
      exact nd_zret (v := 0) (by decide) dX6_in_15
    · replace hf := ifn c2 hf
      refine nd_iconst (v := 1) dX6_in_10 (by decide) ?_
      refine nd_goto (tgt := 15) dX6_in_11 (by decide) ?_
      cases hf
      exact nd_zret (v := 1) (by decide) dX6_in_15
def fX6_stop (F d : Nat) (this : Nat) (p0 : Int32) (p1 : Int32) (h : Hp) : Option (Int32 × Hp) :=
  if (gI h 604 this) = 0 then
  (bn (sI h 604 this (p0 + (16 * p1))) fun h2 => (
  some ((-1), h2)))
  else
  (some ((-1), h))
theorem mw_X6_stop : nd_MW yX6_stop cX6_stop 3 (some .int) 2 := ⟨q1548, q91, by decide, by decide, by decide +kernel⟩
set_option maxHeartbeats 4000000 in
theorem tX6_stop (l : Launch) (w : Wd) (hfl : l.stackTraces = false) (F d : Nat) {this : Nat} {p0 : Int32} {p1 : Int32} (k_this : nd_Kd this = 5) {h : Hp} {r : Int32 × Hp} (hf : fX6_stop F d this p0 p1 h = some r) : nd_C l w yX6_stop cX6_stop 3 (some .int) 0 0 [vr (some this), vi p0, vi p1] h (.inl (some (vi r.1)), r.2) := by
  refine nd_start (as := [vr (some this), vi p0, vi p1]) hfl (by decide) (Nat.le_of_ble_eq_true rfl) ?_
  unfold fX6_stop at hf
  refine nd_eqL (L' := [(0, vr (some this)), (1, vi p0), (2, vi p1)]) rfl ?_
  refine nd_aload_n (j := 0) dX6_stop_0 rfl rfl ?_
  refine nd_getI (k := 4) dX6_stop_1 k_this rfl (Nat.le_of_ble_eq_true rfl) (nd_flO q1344) rfl ?_
  refine nd_if_ne (tgt := 17) dX6_stop_4 (by decide) (fun c1 => ?_) (fun c1 => ?_)
  · replace hf := ifn c1 hf
    refine nd_iconst (v := (-1)) dX6_stop_17 (by decide) ?_
    cases hf
    exact nd_iret (v := (-1)) dX6_stop_18
  · replace hf := ifp c1 hf
    refine nd_aload_n (j := 0) dX6_stop_7 rfl rfl ?_
    refine nd_iload_n (j := 1) dX6_stop_8 rfl rfl ?_
    refine nd_bipush (v := 16) dX6_stop_9 (by decide) ?_
    refine nd_iload_n (j := 2) dX6_stop_11 rfl rfl ?_
    refine nd_imul dX6_stop_12 ?_
    refine nd_iadd dX6_stop_13 ?_
    refine nd_putN (k := 4) dX6_stop_14 k_this rfl (Nat.le_of_ble_eq_true rfl) (nd_flO q1344) rfl rfl rfl ?_
    replace hf := bnE hf
    obtain ⟨h2, e_h2, hf⟩ := hf
    refine nd_hp e_h2 ?_
    refine nd_iconst (v := (-1)) dX6_stop_17 (by decide) ?_
    cases hf
    exact nd_iret (v := (-1)) dX6_stop_18
def fX6_need_31 (F d : Nat) (this : Nat) (h : Hp) : Option (Int32 × Hp) :=
  if (gI h 604 this) = 0 then
  (some (1, h))
  else
  (some (0, h))
def fX6_need (F d : Nat) (this : Nat) (p0 : Int32) (h : Hp) : Option (Int32 × Hp) :=
  ca (fX6_look F d this h) fun v2 h1 => (
  if v2 = p0 then
  (bn (sI h1 603 this ((gI h1 603 this) + 1)) fun h6 => (
  fX6_need_31 F d this h6))
  else
  (ca (fX6_stop F d this 1 (gI h1 603 this) h1) fun v5 h4 => (
  fX6_need_31 F d this h4)))
theorem mw_X6_need : nd_MW yX6_need cX6_need 2 (some .boolean) 1 := ⟨q1552, q91, by decide, by decide, by decide +kernel⟩
set_option maxHeartbeats 4000000 in
theorem tX6_need_31 (l : Launch) (w : Wd) (hfl : l.stackTraces = false) (F d : Nat) (r : Int32 × Hp) (this : Nat) (k_this : nd_Kd this = 5) (h : Hp) (hf : fX6_need_31 F d this h = some r) : nd_V l w yX6_need cX6_need 2 (some .boolean) 1 22 (.inl (some (vi r.1)), r.2) h 31 [(0, vr (some this))] [] := by
  unfold fX6_need_31 at hf
  refine nd_aload_n (j := 0) dX6_need_31 rfl rfl ?_
  refine nd_getI (k := 4) dX6_need_32 k_this rfl (Nat.le_of_ble_eq_true rfl) (nd_flO q1344) rfl ?_
  refine nd_if_ne (tgt := 42) dX6_need_35 (by decide) (fun c1 => ?_) (fun c1 => ?_)
  · replace hf := ifn c1 hf
    refine nd_iconst (v := 0) dX6_need_42 (by decide) ?_
    cases hf
    exact nd_zret (v := 0) (by decide) dX6_need_43
  · replace hf := ifp c1 hf
    refine nd_iconst (v := 1) dX6_need_38 (by decide) ?_
    refine nd_goto (tgt := 43) dX6_need_39 (by decide) ?_
    cases hf
    exact nd_zret (v := 1) (by decide) dX6_need_43
set_option maxHeartbeats 4000000 in
theorem tX6_need (l : Launch) (w : Wd) (hfl : l.stackTraces = false) (F d : Nat) {this : Nat} {p0 : Int32} (k_this : nd_Kd this = 5) {h : Hp} {r : Int32 × Hp} (hf : fX6_need F d this p0 h = some r) : nd_C l w yX6_need cX6_need 2 (some .boolean) 1 22 [vr (some this), vi p0] h (.inl (some (vi r.1)), r.2) := by
  refine nd_start (as := [vr (some this), vi p0]) hfl (by decide) (Nat.le_of_ble_eq_true rfl) ?_
  unfold fX6_need at hf
  refine nd_eqL (L' := [(0, vr (some this)), (1, vi p0)]) rfl ?_
  refine nd_aload_n (j := 0) dX6_need_0 rfl rfl ?_
  replace hf := caE hf
  obtain ⟨v2, h1, e_h1, hf⟩ := hf
  refine nd_Vi [] (tX6_look l w hfl F d k_this e_h1) rfl dX6_need_1 mw_X6_look (Or.inl q1538) k_this rfl q1540 qs31 (by omega) (by omega) (Nat.le_of_ble_eq_true rfl) ?_
  refine nd_iload_n (j := 1) dX6_need_4 rfl rfl ?_
  refine nd_icmp_ne (tgt := 21) dX6_need_5 (by decide) (fun c3 => ?_) (fun c3 => ?_)
  · replace hf := ifn c3 hf
    refine nd_aload_n (j := 0) dX6_need_21 rfl rfl ?_
    refine nd_iconst (v := 1) dX6_need_22 (by decide) ?_
    refine nd_aload_n (j := 0) dX6_need_23 rfl rfl ?_
    refine nd_getI (k := 3) dX6_need_24 k_this rfl (Nat.le_of_ble_eq_true rfl) (nd_flO q1343) rfl ?_
    replace hf := caE hf
    obtain ⟨v5, h4, e_h4, hf⟩ := hf
    refine nd_Vi [] (tX6_stop l w hfl F d k_this e_h4) rfl dX6_need_27 mw_X6_stop (Or.inl q1545) k_this rfl q1547 qs32 (by omega) (by omega) (Nat.le_of_ble_eq_true rfl) ?_
    refine nd_pop dX6_need_30 rfl ?_
    exact nd_loc [0] rfl (tX6_need_31 l w hfl F d r _ k_this _ hf)
  · replace hf := ifp c3 hf
    refine nd_aload_n (j := 0) dX6_need_8 rfl rfl ?_
    refine nd_dup dX6_need_9 rfl ?_
    refine nd_getI (k := 3) dX6_need_10 k_this rfl (Nat.le_of_ble_eq_true rfl) (nd_flO q1343) rfl ?_
    refine nd_iconst (v := 1) dX6_need_13 (by decide) ?_
    refine nd_iadd dX6_need_14 ?_
    refine nd_putN (k := 3) dX6_need_15 k_this rfl (Nat.le_of_ble_eq_true rfl) (nd_flO q1343) rfl rfl rfl ?_
    replace hf := bnE hf
    obtain ⟨h6, e_h6, hf⟩ := hf
    refine nd_hp e_h6 ?_
    refine nd_goto (tgt := 31) dX6_need_18 (by decide) ?_
    exact nd_loc [0] rfl (tX6_need_31 l w hfl F d r _ k_this _ hf)
def fX6_add_97 (F d : Nat) (this : Nat) (x2 : Int32) (s0 : Int32) (h : Hp) : Option (Int32 × Hp) :=
  nn (gP h 616 this) fun a2 => (
  if s0 = 0 then
  (ck (inb x2 (nd_Ln a2)) (
  bn (sA h a2 (Int32.toNatClampNeg x2) 0) fun h7 => (
  some (x2, h7))))
  else
  (ck (inb x2 (nd_Ln a2)) (
  bn (sA h a2 (Int32.toNatClampNeg x2) (1 <<< (s0 &&& 31))) fun h5 => (
  some (x2, h5)))))
def fX6_add_91 (F d : Nat) (this : Nat) (x2 : Int32) (h : Hp) : Option (Int32 × Hp) :=
  fX6_add_97 F d this x2 0 h
def fX6_add (F d : Nat) (this : Nat) (p0 : Int32) (h : Hp) : Option (Int32 × Hp) :=
  bn (gI h 610 this) fun v1 => (
  bn (sI h 610 this ((gI h 610 this) + 1)) fun h2 => (
  nn (gP h2 611 this) fun a4 => (
  ck (inb v1 (nd_Ln a4)) (
  bn (sA h2 a4 (Int32.toNatClampNeg v1) p0) fun h6 => (
  nn (gP h6 615 this) fun a8 => (
  ck (inb v1 (nd_Ln a8)) (
  bn (sA h6 a8 (Int32.toNatClampNeg v1) 0) fun h10 => (
  nn (gP h10 617 this) fun a12 => (
  ck (inb v1 (nd_Ln a12)) (
  bn (sA h10 a12 (Int32.toNatClampNeg v1) 0) fun h14 => (
  nn (gP h14 618 this) fun a16 => (
  ck (inb v1 (nd_Ln a16)) (
  bn (sA h14 a16 (Int32.toNatClampNeg v1) 0) fun h18 => (
  if p0 = 1 then
  (fX6_add_97 F d this v1 1 h18)
  else
  (if p0 = 2 then
  (fX6_add_97 F d this v1 2 h18)
  else
  (if p0 = 4 then
  (fX6_add_97 F d this v1 4 h18)
  else
  (if p0 = 5 then
  (fX6_add_97 F d this v1 5 h18)
  else
  (if p0 = 9 then
  (fX6_add_91 F d this v1 h18)
  else
  (if p0 = 10 then
  (fX6_add_91 F d this v1 h18)
  else
  (fX6_add_97 F d this v1 16 h18))))))))))))))))))))
theorem mw_X6_add : nd_MW yX6_add cX6_add 4 (some .int) 1 := ⟨q1568, q91, by decide, by decide, by decide +kernel⟩
set_option maxHeartbeats 4000000 in
theorem tX6_add_97 (l : Launch) (w : Wd) (hfl : l.stackTraces = false) (F d : Nat) (r : Int32 × Hp) (this : Nat) (x2 : Int32) (s0 : Int32) (k_this : nd_Kd this = 5) (h : Hp) (hf : fX6_add_97 F d this x2 s0 h = some r) : nd_V l w yX6_add cX6_add 4 (some .int) 0 0 (.inl (some (vi r.1)), r.2) h 97 [(0, vr (some this)), (2, vi x2)] [vi s0] := by
  unfold fX6_add_97 at hf
  refine nd_istore_n [(3, vi s0), (0, vr (some this)), (2, vi x2)] dX6_add_97 rfl (Nat.le_of_ble_eq_true rfl) rfl ?_
  refine nd_aload_n (j := 1) dX6_add_98 rfl rfl ?_
  refine nd_getP (k := 16) dX6_add_99 k_this rfl (Nat.le_of_ble_eq_true rfl) (nd_flO q1356) rfl (fun ok1 => ?_)
  replace hf := nnE hf
  obtain ⟨a2, e_a2, hf⟩ := hf
  refine nd_topr e_a2.symm ?_
  have k_a2 : nd_Kd a2 = 20 := nd_c1 (ok1 a2 e_a2)
  refine nd_iload_n (j := 2) dX6_add_102 rfl rfl ?_
  refine nd_iload_n (j := 0) dX6_add_103 rfl rfl ?_
  refine nd_if_ne (tgt := 111) dX6_add_104 (by decide) (fun c3 => ?_) (fun c3 => ?_)
  · replace hf := ifn c3 hf
    refine nd_iconst (v := 1) dX6_add_111 (by decide) ?_
    refine nd_iload_n (j := 0) dX6_add_112 rfl rfl ?_
    refine nd_ishl dX6_add_113 ?_
    replace hf := ckE hf
    obtain ⟨c4, hf⟩ := hf
    refine nd_iast dX6_add_114 k_a2 c4 ?_
    replace hf := bnE hf
    obtain ⟨h5, e_h5, hf⟩ := hf
    refine nd_hp e_h5 ?_
    refine nd_iload_n (j := 2) dX6_add_115 rfl rfl ?_
    cases hf
    exact nd_iret (v := x2) dX6_add_116
  · replace hf := ifp c3 hf
    refine nd_iconst (v := 0) dX6_add_107 (by decide) ?_
    refine nd_goto (tgt := 114) dX6_add_108 (by decide) ?_
    replace hf := ckE hf
    obtain ⟨c6, hf⟩ := hf
    refine nd_iast dX6_add_114 k_a2 c6 ?_
    replace hf := bnE hf
    obtain ⟨h7, e_h7, hf⟩ := hf
    refine nd_hp e_h7 ?_
    refine nd_iload_n (j := 2) dX6_add_115 rfl rfl ?_
    cases hf
    exact nd_iret (v := x2) dX6_add_116
set_option maxHeartbeats 4000000 in
theorem tX6_add_91 (l : Launch) (w : Wd) (hfl : l.stackTraces = false) (F d : Nat) (r : Int32 × Hp) (this : Nat) (x2 : Int32) (k_this : nd_Kd this = 5) (h : Hp) (hf : fX6_add_91 F d this x2 h = some r) : nd_V l w yX6_add cX6_add 4 (some .int) 0 0 (.inl (some (vi r.1)), r.2) h 91 [(0, vr (some this)), (2, vi x2)] [] := by
  unfold fX6_add_91 at hf
  refine nd_iconst (v := 0) dX6_add_91 (by decide) ?_
  refine nd_goto (tgt := 97) dX6_add_92 (by decide) ?_
  exact nd_loc [0, 1] rfl (tX6_add_97 l w hfl F d r _ _ _ k_this _ hf)
set_option maxHeartbeats 4000000 in
theorem tX6_add (l : Launch) (w : Wd) (hfl : l.stackTraces = false) (F d : Nat) {this : Nat} {p0 : Int32} (k_this : nd_Kd this = 5) {h : Hp} {r : Int32 × Hp} (hf : fX6_add F d this p0 h = some r) : nd_C l w yX6_add cX6_add 4 (some .int) 0 0 [vr (some this), vi p0] h (.inl (some (vi r.1)), r.2) := by
  refine nd_start (as := [vr (some this), vi p0]) hfl (by decide) (Nat.le_of_ble_eq_true rfl) ?_
  unfold fX6_add at hf
  refine nd_eqL (L' := [(0, vr (some this)), (1, vi p0)]) rfl ?_
  refine nd_aload_n (j := 0) dX6_add_0 rfl rfl ?_
  refine nd_getI (k := 10) dX6_add_1 k_this rfl (Nat.le_of_ble_eq_true rfl) (nd_flO q1350) rfl ?_
  replace hf := bnE hf
  obtain ⟨v1, e_v1, hf⟩ := hf
  refine nd_top e_v1 ?_
  refine nd_istore_n [(2, vi v1), (0, vr (some this)), (1, vi p0)] dX6_add_4 rfl (Nat.le_of_ble_eq_true rfl) rfl ?_
  refine nd_aload_n (j := 1) dX6_add_5 rfl rfl ?_
  refine nd_dup dX6_add_6 rfl ?_
  refine nd_getI (k := 10) dX6_add_7 k_this rfl (Nat.le_of_ble_eq_true rfl) (nd_flO q1350) rfl ?_
  refine nd_iconst (v := 1) dX6_add_10 (by decide) ?_
  refine nd_iadd dX6_add_11 ?_
  refine nd_putN (k := 10) dX6_add_12 k_this rfl (Nat.le_of_ble_eq_true rfl) (nd_flO q1350) rfl rfl rfl ?_
  replace hf := bnE hf
  obtain ⟨h2, e_h2, hf⟩ := hf
  refine nd_hp e_h2 ?_
  refine nd_aload_n (j := 1) dX6_add_15 rfl rfl ?_
  refine nd_getP (k := 11) dX6_add_16 k_this rfl (Nat.le_of_ble_eq_true rfl) (nd_flO q1351) rfl (fun ok3 => ?_)
  replace hf := nnE hf
  obtain ⟨a4, e_a4, hf⟩ := hf
  refine nd_topr e_a4.symm ?_
  have k_a4 : nd_Kd a4 = 20 := nd_c1 (ok3 a4 e_a4)
  refine nd_iload_n (j := 0) dX6_add_19 rfl rfl ?_
  refine nd_iload_n (j := 2) dX6_add_20 rfl rfl ?_
  replace hf := ckE hf
  obtain ⟨c5, hf⟩ := hf
  refine nd_iast dX6_add_21 k_a4 c5 ?_
  replace hf := bnE hf
  obtain ⟨h6, e_h6, hf⟩ := hf
  refine nd_hp e_h6 ?_
  refine nd_aload_n (j := 1) dX6_add_22 rfl rfl ?_
  refine nd_getP (k := 15) dX6_add_23 k_this rfl (Nat.le_of_ble_eq_true rfl) (nd_flO q1355) rfl (fun ok7 => ?_)
  replace hf := nnE hf
  obtain ⟨a8, e_a8, hf⟩ := hf
  refine nd_topr e_a8.symm ?_
  have k_a8 : nd_Kd a8 = 20 := nd_c1 (ok7 a8 e_a8)
  refine nd_iload_n (j := 0) dX6_add_26 rfl rfl ?_
  refine nd_iconst (v := 0) dX6_add_27 (by decide) ?_
  replace hf := ckE hf
  obtain ⟨c9, hf⟩ := hf
  refine nd_iast dX6_add_28 k_a8 c9 ?_
  replace hf := bnE hf
  obtain ⟨h10, e_h10, hf⟩ := hf
  refine nd_hp e_h10 ?_
  refine nd_aload_n (j := 1) dX6_add_29 rfl rfl ?_
  refine nd_getP (k := 17) dX6_add_30 k_this rfl (Nat.le_of_ble_eq_true rfl) (nd_flO q1357) rfl (fun ok11 => ?_)
  replace hf := nnE hf
  obtain ⟨a12, e_a12, hf⟩ := hf
  refine nd_topr e_a12.symm ?_
  have k_a12 : nd_Kd a12 = 20 := nd_c1 (ok11 a12 e_a12)
  refine nd_iload_n (j := 0) dX6_add_33 rfl rfl ?_
  refine nd_iconst (v := 0) dX6_add_34 (by decide) ?_
  replace hf := ckE hf
  obtain ⟨c13, hf⟩ := hf
  refine nd_iast dX6_add_35 k_a12 c13 ?_
  replace hf := bnE hf
  obtain ⟨h14, e_h14, hf⟩ := hf
  refine nd_hp e_h14 ?_
  refine nd_aload_n (j := 1) dX6_add_36 rfl rfl ?_
  refine nd_getP (k := 18) dX6_add_37 k_this rfl (Nat.le_of_ble_eq_true rfl) (nd_flO q1358) rfl (fun ok15 => ?_)
  replace hf := nnE hf
  obtain ⟨a16, e_a16, hf⟩ := hf
  refine nd_topr e_a16.symm ?_
  have k_a16 : nd_Kd a16 = 22 := nd_c1 (ok15 a16 e_a16)
  refine nd_iload_n (j := 0) dX6_add_40 rfl rfl ?_
  refine nd_iconst (v := 0) dX6_add_41 (by decide) ?_
  replace hf := ckE hf
  obtain ⟨c17, hf⟩ := hf
  refine nd_zast dX6_add_42 k_a16 c17 (by decide) ?_
  replace hf := bnE hf
  obtain ⟨h18, e_h18, hf⟩ := hf
  refine nd_hp e_h18 ?_
  refine nd_iload_n (j := 2) dX6_add_43 rfl rfl ?_
  refine nd_iconst (v := 1) dX6_add_44 (by decide) ?_
  refine nd_icmp_ne (tgt := 52) dX6_add_45 (by decide) (fun c19 => ?_) (fun c19 => ?_)
  · replace hf := ifn c19 hf
    refine nd_iload_n (j := 2) dX6_add_52 rfl rfl ?_
    refine nd_iconst (v := 2) dX6_add_53 (by decide) ?_
    refine nd_icmp_ne (tgt := 61) dX6_add_54 (by decide) (fun c20 => ?_) (fun c20 => ?_)
    · replace hf := ifn c20 hf
      refine nd_iload_n (j := 2) dX6_add_61 rfl rfl ?_
      refine nd_iconst (v := 4) dX6_add_62 (by decide) ?_
      refine nd_icmp_ne (tgt := 70) dX6_add_63 (by decide) (fun c21 => ?_) (fun c21 => ?_)
      · replace hf := ifn c21 hf
        refine nd_iload_n (j := 2) dX6_add_70 rfl rfl ?_
        refine nd_iconst (v := 5) dX6_add_71 (by decide) ?_
        refine nd_icmp_ne (tgt := 79) dX6_add_72 (by decide) (fun c22 => ?_) (fun c22 => ?_)
        · replace hf := ifn c22 hf
          refine nd_iload_n (j := 2) dX6_add_79 rfl rfl ?_
          refine nd_bipush (v := 9) dX6_add_80 (by decide) ?_
          refine nd_icmp_eq (tgt := 91) dX6_add_82 (by decide) (fun c23 => ?_) (fun c23 => ?_)
          · replace hf := ifp c23 hf
            exact nd_loc [1, 0] rfl (tX6_add_91 l w hfl F d r _ _ k_this _ hf)
          · replace hf := ifn c23 hf
            refine nd_iload_n (j := 2) dX6_add_85 rfl rfl ?_
            refine nd_bipush (v := 10) dX6_add_86 (by decide) ?_
            refine nd_icmp_ne (tgt := 95) dX6_add_88 (by decide) (fun c24 => ?_) (fun c24 => ?_)
            · replace hf := ifn c24 hf
              refine nd_bipush (v := 16) dX6_add_95 (by decide) ?_
              exact nd_loc [1, 0] rfl (tX6_add_97 l w hfl F d r _ _ _ k_this _ hf)
            · replace hf := ifp c24 hf
              exact nd_loc [1, 0] rfl (tX6_add_91 l w hfl F d r _ _ k_this _ hf)
        · replace hf := ifp c22 hf
          refine nd_iconst (v := 5) dX6_add_75 (by decide) ?_
          refine nd_goto (tgt := 97) dX6_add_76 (by decide) ?_
          exact nd_loc [1, 0] rfl (tX6_add_97 l w hfl F d r _ _ _ k_this _ hf)
      · replace hf := ifp c21 hf
        refine nd_iconst (v := 4) dX6_add_66 (by decide) ?_
        refine nd_goto (tgt := 97) dX6_add_67 (by decide) ?_
        exact nd_loc [1, 0] rfl (tX6_add_97 l w hfl F d r _ _ _ k_this _ hf)
    · replace hf := ifp c20 hf
      refine nd_iconst (v := 2) dX6_add_57 (by decide) ?_
      refine nd_goto (tgt := 97) dX6_add_58 (by decide) ?_
      exact nd_loc [1, 0] rfl (tX6_add_97 l w hfl F d r _ _ _ k_this _ hf)
  · replace hf := ifp c19 hf
    refine nd_iconst (v := 1) dX6_add_48 (by decide) ?_
    refine nd_goto (tgt := 97) dX6_add_49 (by decide) ?_
    exact nd_loc [1, 0] rfl (tX6_add_97 l w hfl F d r _ _ _ k_this _ hf)
def fX6_push (F d : Nat) (this : Nat) (p0 : Int32) (h : Hp) : Option (Int32 × Hp) :=
  nn (gP h 608 this) fun a2 => (
  ck (inb (gI h 605 this) (nd_Ln a2)) (
  bn (sA h a2 (Int32.toNatClampNeg (gI h 605 this)) p0) fun h4 => (
  bn (sI h4 605 this ((gI h4 605 this) + 1)) fun h5 => (
  some ((-1), h5)))))
theorem mw_X6_push : nd_MW yX6_push cX6_push 2 (some .int) 1 := ⟨q1572, q91, by decide, by decide, by decide +kernel⟩
set_option maxHeartbeats 4000000 in
theorem tX6_push (l : Launch) (w : Wd) (hfl : l.stackTraces = false) (F d : Nat) {this : Nat} {p0 : Int32} (k_this : nd_Kd this = 5) {h : Hp} {r : Int32 × Hp} (hf : fX6_push F d this p0 h = some r) : nd_C l w yX6_push cX6_push 2 (some .int) 0 0 [vr (some this), vi p0] h (.inl (some (vi r.1)), r.2) := by
  refine nd_start (as := [vr (some this), vi p0]) hfl (by decide) (Nat.le_of_ble_eq_true rfl) ?_
  unfold fX6_push at hf
  refine nd_eqL (L' := [(0, vr (some this)), (1, vi p0)]) rfl ?_
  refine nd_aload_n (j := 0) dX6_push_0 rfl rfl ?_
  refine nd_getP (k := 8) dX6_push_1 k_this rfl (Nat.le_of_ble_eq_true rfl) (nd_flO q1348) rfl (fun ok1 => ?_)
  replace hf := nnE hf
  obtain ⟨a2, e_a2, hf⟩ := hf
  refine nd_topr e_a2.symm ?_
  have k_a2 : nd_Kd a2 = 20 := nd_c1 (ok1 a2 e_a2)
  refine nd_aload_n (j := 0) dX6_push_4 rfl rfl ?_
  refine nd_getI (k := 5) dX6_push_5 k_this rfl (Nat.le_of_ble_eq_true rfl) (nd_flO q1345) rfl ?_
  refine nd_iload_n (j := 1) dX6_push_8 rfl rfl ?_
  replace hf := ckE hf
  obtain ⟨c3, hf⟩ := hf
  refine nd_iast dX6_push_9 k_a2 c3 ?_
  replace hf := bnE hf
  obtain ⟨h4, e_h4, hf⟩ := hf
  refine nd_hp e_h4 ?_
  refine nd_aload_n (j := 0) dX6_push_10 rfl rfl ?_
  refine nd_dup dX6_push_11 rfl ?_
  refine nd_getI (k := 5) dX6_push_12 k_this rfl (Nat.le_of_ble_eq_true rfl) (nd_flO q1345) rfl ?_
  refine nd_iconst (v := 1) dX6_push_15 (by decide) ?_
  refine nd_iadd dX6_push_16 ?_
  refine nd_putN (k := 5) dX6_push_17 k_this rfl (Nat.le_of_ble_eq_true rfl) (nd_flO q1345) rfl rfl rfl ?_
  replace hf := bnE hf
  obtain ⟨h5, e_h5, hf⟩ := hf
  refine nd_hp e_h5 ?_
  refine nd_iconst (v := (-1)) dX6_push_20 (by decide) ?_
  cases hf
  exact nd_iret (v := (-1)) dX6_push_21
def fX6_tagged_104 (F d : Nat) (this : Nat) (x1 : Int32) (s0 : Nat) (s1 : Int32) (s2 : Int32) (h : Hp) : Option (Int32 × Hp) :=
  bn (sI h 603 s0 (s1 + s2)) fun h1 => (
  nn (gP h1 616 this) fun a3 => (
  nn (gP h1 614 this) fun a5 => (
  ck (inb x1 (nd_Ln a5)) (
  ck (inb x1 (nd_Ln a3)) (
  bn (sA h1 a3 (Int32.toNatClampNeg x1) (1 <<< ((20 + (gA h1 a5 (Int32.toNatClampNeg x1))) &&& 31))) fun h8 => (
  ca (fX6_need F d this 93 h8) fun v10 h9 => (
  if v10 = 0 then
  (some ((-1), h9))
  else
  (ca (fX6_push F d this x1 h9) fun v13 h12 => (
  some (v13, h12))))))))))
def fX6_tagged_84 (F d : Nat) (this : Nat) (x1 : Int32) (s0 : Nat) (s1 : Int32) (s2 : Int32) (h : Hp) : Option (Int32 × Hp) :=
  ck (inb s1 (nd_Ln s0)) (
  ck (isB s2) (
  bn (sA h s0 (Int32.toNatClampNeg s1) s2) fun h2 => (
  nn (gP h2 619 this) fun a5 => (
  ck (inb x1 (nd_Ln a5)) (
  if (gA h2 a5 (Int32.toNatClampNeg x1)) = 0 then
  (fX6_tagged_104 F d this x1 this (gI h2 603 this) 0 h2)
  else
  (fX6_tagged_104 F d this x1 this (gI h2 603 this) 1 h2))))))
def fX6_tagged (F d : Nat) (this : Nat) (h : Hp) : Option (Int32 × Hp) :=
  bn (sI h 603 this ((gI h 603 this) + 1)) fun h1 => (
  ca (fX6_add F d this 10 h1) fun v3 h2 => (
  nn (gP h2 614 this) fun a5 => (
  ca (fX6_look F d this h2) fun v7 h6 => (
  ck (inb v3 (nd_Ln a5)) (
  bn (sA h6 a5 (Int32.toNatClampNeg v3) (v7 - 48)) fun h9 => (
  nn (gP h9 614 this) fun a11 => (
  ck (inb v3 (nd_Ln a11)) (
  ca (fX6_in F d (gA h9 a11 (Int32.toNatClampNeg v3)) 0 9 h9) fun v14 h13 => (
  if v14 = 0 then
  (ca (fX6_stop F d this 1 (gI h13 603 this) h13) fun v23 h22 => (
  some (v23, h22)))
  else
  (bn (sI h13 603 this ((gI h13 603 this) + 1)) fun h16 => (
  nn (gP h16 619 this) fun a18 => (
  ca (fX6_look F d this h16) fun v20 h19 => (
  if v20 = 33 then
  (fX6_tagged_84 F d this v3 a18 v3 1 h19)
  else
  (fX6_tagged_84 F d this v3 a18 v3 0 h19))))))))))))))
theorem mw_X6_tagged : nd_MW yX6_tagged cX6_tagged 2 (some .int) 0 := ⟨q1564, q91, by decide, by decide, by decide +kernel⟩
set_option maxHeartbeats 4000000 in
theorem tX6_tagged_104 (l : Launch) (w : Wd) (hfl : l.stackTraces = false) (F d : Nat) (r : Int32 × Hp) (this : Nat) (x1 : Int32) (s0 : Nat) (s1 : Int32) (s2 : Int32) (k_this : nd_Kd this = 5) (k_s0 : nd_Kd s0 = 5) (h : Hp) (hf : fX6_tagged_104 F d this x1 s0 s1 s2 h = some r) : nd_V l w yX6_tagged cX6_tagged 2 (some .int) 2 43 (.inl (some (vi r.1)), r.2) h 104 [(0, vr (some this)), (1, vi x1)] [vi s2, vi s1, vr (some s0)] := by
  unfold fX6_tagged_104 at hf
  refine nd_iadd dX6_tagged_104 ?_
  refine nd_putN (k := 3) dX6_tagged_105 k_s0 rfl (Nat.le_of_ble_eq_true rfl) (nd_flO q1343) rfl rfl rfl ?_
  replace hf := bnE hf
  obtain ⟨h1, e_h1, hf⟩ := hf
  refine nd_hp e_h1 ?_
  refine nd_aload_n (j := 0) dX6_tagged_108 rfl rfl ?_
  refine nd_getP (k := 16) dX6_tagged_109 k_this rfl (Nat.le_of_ble_eq_true rfl) (nd_flO q1356) rfl (fun ok2 => ?_)
  replace hf := nnE hf
  obtain ⟨a3, e_a3, hf⟩ := hf
  refine nd_topr e_a3.symm ?_
  have k_a3 : nd_Kd a3 = 20 := nd_c1 (ok2 a3 e_a3)
  refine nd_iload_n (j := 1) dX6_tagged_112 rfl rfl ?_
  refine nd_iconst (v := 1) dX6_tagged_113 (by decide) ?_
  refine nd_bipush (v := 20) dX6_tagged_114 (by decide) ?_
  refine nd_aload_n (j := 0) dX6_tagged_116 rfl rfl ?_
  refine nd_getP (k := 14) dX6_tagged_117 k_this rfl (Nat.le_of_ble_eq_true rfl) (nd_flO q1354) rfl (fun ok4 => ?_)
  replace hf := nnE hf
  obtain ⟨a5, e_a5, hf⟩ := hf
  refine nd_topr e_a5.symm ?_
  have k_a5 : nd_Kd a5 = 20 := nd_c1 (ok4 a5 e_a5)
  refine nd_iload_n (j := 1) dX6_tagged_120 rfl rfl ?_
  replace hf := ckE hf
  obtain ⟨c6, hf⟩ := hf
  refine nd_iald dX6_tagged_121 k_a5 c6 ?_
  refine nd_iadd dX6_tagged_122 ?_
  refine nd_ishl dX6_tagged_123 ?_
  replace hf := ckE hf
  obtain ⟨c7, hf⟩ := hf
  refine nd_iast dX6_tagged_124 k_a3 c7 ?_
  replace hf := bnE hf
  obtain ⟨h8, e_h8, hf⟩ := hf
  refine nd_hp e_h8 ?_
  refine nd_aload_n (j := 0) dX6_tagged_125 rfl rfl ?_
  refine nd_bipush (v := 93) dX6_tagged_126 (by decide) ?_
  replace hf := caE hf
  obtain ⟨v10, h9, e_h9, hf⟩ := hf
  refine nd_Vi [] (tX6_need l w hfl F d k_this e_h9) rfl dX6_tagged_128 mw_X6_need (Or.inl q1549) k_this rfl q1551 qs33 (by omega) (by omega) (Nat.le_of_ble_eq_true rfl) ?_
  refine nd_if_eq (tgt := 142) dX6_tagged_131 (by decide) (fun c11 => ?_) (fun c11 => ?_)
  · replace hf := ifp c11 hf
    refine nd_iconst (v := (-1)) dX6_tagged_142 (by decide) ?_
    cases hf
    exact nd_iret (v := (-1)) dX6_tagged_143
  · replace hf := ifn c11 hf
    refine nd_aload_n (j := 0) dX6_tagged_134 rfl rfl ?_
    refine nd_iload_n (j := 1) dX6_tagged_135 rfl rfl ?_
    replace hf := caE hf
    obtain ⟨v13, h12, e_h12, hf⟩ := hf
    refine nd_Vi [] (tX6_push l w hfl F d k_this e_h12) rfl dX6_tagged_136 mw_X6_push (Or.inl q1569) k_this rfl q1571 qs38 (by omega) (by omega) (Nat.le_of_ble_eq_true rfl) ?_
    refine nd_goto (tgt := 143) dX6_tagged_139 (by decide) ?_
    cases hf
    exact nd_iret (v := v13) dX6_tagged_143
set_option maxHeartbeats 4000000 in
theorem tX6_tagged_84 (l : Launch) (w : Wd) (hfl : l.stackTraces = false) (F d : Nat) (r : Int32 × Hp) (this : Nat) (x1 : Int32) (s0 : Nat) (s1 : Int32) (s2 : Int32) (k_this : nd_Kd this = 5) (k_s0 : nd_Kd s0 = 22) (h : Hp) (hf : fX6_tagged_84 F d this x1 s0 s1 s2 h = some r) : nd_V l w yX6_tagged cX6_tagged 2 (some .int) 2 43 (.inl (some (vi r.1)), r.2) h 84 [(0, vr (some this)), (1, vi x1)] [vi s2, vi s1, vr (some s0)] := by
  unfold fX6_tagged_84 at hf
  replace hf := ckE hf
  obtain ⟨c1, hf⟩ := hf
  replace hf := ckE hf
  obtain ⟨c3, hf⟩ := hf
  refine nd_zast dX6_tagged_84 k_s0 c1 c3 ?_
  replace hf := bnE hf
  obtain ⟨h2, e_h2, hf⟩ := hf
  refine nd_hp e_h2 ?_
  refine nd_aload_n (j := 0) dX6_tagged_85 rfl rfl ?_
  refine nd_dup dX6_tagged_86 rfl ?_
  refine nd_getI (k := 3) dX6_tagged_87 k_this rfl (Nat.le_of_ble_eq_true rfl) (nd_flO q1343) rfl ?_
  refine nd_aload_n (j := 0) dX6_tagged_90 rfl rfl ?_
  refine nd_getP (k := 19) dX6_tagged_91 k_this rfl (Nat.le_of_ble_eq_true rfl) (nd_flO q1359) rfl (fun ok4 => ?_)
  replace hf := nnE hf
  obtain ⟨a5, e_a5, hf⟩ := hf
  refine nd_topr e_a5.symm ?_
  have k_a5 : nd_Kd a5 = 22 := nd_c1 (ok4 a5 e_a5)
  refine nd_iload_n (j := 1) dX6_tagged_94 rfl rfl ?_
  replace hf := ckE hf
  obtain ⟨c6, hf⟩ := hf
  refine nd_zald dX6_tagged_95 k_a5 c6 ?_
  refine nd_if_eq (tgt := 103) dX6_tagged_96 (by decide) (fun c7 => ?_) (fun c7 => ?_)
  · replace hf := ifp c7 hf
    refine nd_iconst (v := 0) dX6_tagged_103 (by decide) ?_
    exact nd_loc [0, 1] rfl (tX6_tagged_104 l w hfl F d r _ _ _ _ _ k_this k_this _ hf)
  · replace hf := ifn c7 hf
    refine nd_iconst (v := 1) dX6_tagged_99 (by decide) ?_
    refine nd_goto (tgt := 104) dX6_tagged_100 (by decide) ?_
    exact nd_loc [0, 1] rfl (tX6_tagged_104 l w hfl F d r _ _ _ _ _ k_this k_this _ hf)
set_option maxHeartbeats 4000000 in
theorem tX6_tagged (l : Launch) (w : Wd) (hfl : l.stackTraces = false) (F d : Nat) {this : Nat} (k_this : nd_Kd this = 5) {h : Hp} {r : Int32 × Hp} (hf : fX6_tagged F d this h = some r) : nd_C l w yX6_tagged cX6_tagged 2 (some .int) 2 43 [vr (some this)] h (.inl (some (vi r.1)), r.2) := by
  refine nd_start (as := [vr (some this)]) hfl (by decide) (Nat.le_of_ble_eq_true rfl) ?_
  unfold fX6_tagged at hf
  refine nd_eqL (L' := [(0, vr (some this))]) rfl ?_
  refine nd_aload_n (j := 0) dX6_tagged_0 rfl rfl ?_
  refine nd_dup dX6_tagged_1 rfl ?_
  refine nd_getI (k := 3) dX6_tagged_2 k_this rfl (Nat.le_of_ble_eq_true rfl) (nd_flO q1343) rfl ?_
  refine nd_iconst (v := 1) dX6_tagged_5 (by decide) ?_
  refine nd_iadd dX6_tagged_6 ?_
  refine nd_putN (k := 3) dX6_tagged_7 k_this rfl (Nat.le_of_ble_eq_true rfl) (nd_flO q1343) rfl rfl rfl ?_
  replace hf := bnE hf
  obtain ⟨h1, e_h1, hf⟩ := hf
  refine nd_hp e_h1 ?_
  refine nd_aload_n (j := 0) dX6_tagged_10 rfl rfl ?_
  refine nd_bipush (v := 10) dX6_tagged_11 (by decide) ?_
  replace hf := caE hf
  obtain ⟨v3, h2, e_h2, hf⟩ := hf
  refine nd_Vi [] (tX6_add l w hfl F d k_this e_h2) rfl dX6_tagged_13 mw_X6_add (Or.inl q1565) k_this rfl q1567 qs37 (by omega) (by omega) (Nat.le_of_ble_eq_true rfl) ?_
  refine nd_istore_n [(1, vi v3), (0, vr (some this))] dX6_tagged_16 rfl (Nat.le_of_ble_eq_true rfl) rfl ?_
  refine nd_aload_n (j := 1) dX6_tagged_17 rfl rfl ?_
  refine nd_getP (k := 14) dX6_tagged_18 k_this rfl (Nat.le_of_ble_eq_true rfl) (nd_flO q1354) rfl (fun ok4 => ?_)
  replace hf := nnE hf
  obtain ⟨a5, e_a5, hf⟩ := hf
  refine nd_topr e_a5.symm ?_
  have k_a5 : nd_Kd a5 = 20 := nd_c1 (ok4 a5 e_a5)
  refine nd_iload_n (j := 0) dX6_tagged_21 rfl rfl ?_
  refine nd_aload_n (j := 1) dX6_tagged_22 rfl rfl ?_
  replace hf := caE hf
  obtain ⟨v7, h6, e_h6, hf⟩ := hf
  refine nd_Vi [vi v3, vr (some a5)] (tX6_look l w hfl F d k_this e_h6) rfl dX6_tagged_23 mw_X6_look (Or.inl q1538) k_this rfl q1540 qs31 (by omega) (by omega) (Nat.le_of_ble_eq_true rfl) ?_
  refine nd_bipush (v := 48) dX6_tagged_26 (by decide) ?_
  refine nd_isub dX6_tagged_28 ?_
  replace hf := ckE hf
  obtain ⟨c8, hf⟩ := hf
  refine nd_iast dX6_tagged_29 k_a5 c8 ?_
  replace hf := bnE hf
  obtain ⟨h9, e_h9, hf⟩ := hf
  refine nd_hp e_h9 ?_
  refine nd_aload_n (j := 1) dX6_tagged_30 rfl rfl ?_
  refine nd_getP (k := 14) dX6_tagged_31 k_this rfl (Nat.le_of_ble_eq_true rfl) (nd_flO q1354) rfl (fun ok10 => ?_)
  replace hf := nnE hf
  obtain ⟨a11, e_a11, hf⟩ := hf
  refine nd_topr e_a11.symm ?_
  have k_a11 : nd_Kd a11 = 20 := nd_c1 (ok10 a11 e_a11)
  refine nd_iload_n (j := 0) dX6_tagged_34 rfl rfl ?_
  replace hf := ckE hf
  obtain ⟨c12, hf⟩ := hf
  refine nd_iald dX6_tagged_35 k_a11 c12 ?_
  refine nd_iconst (v := 0) dX6_tagged_36 (by decide) ?_
  refine nd_bipush (v := 9) dX6_tagged_37 (by decide) ?_
  replace hf := caE hf
  obtain ⟨v14, h13, e_h13, hf⟩ := hf
  refine nd_Si [] (tX6_in l w hfl F d e_h13) rfl dX6_tagged_39 mw_X6_in (Or.inl q1542) q1543 (by omega) (by omega) (Nat.le_of_ble_eq_true rfl) ?_
  refine nd_if_ne (tgt := 55) dX6_tagged_42 (by decide) (fun c15 => ?_) (fun c15 => ?_)
  · replace hf := ifn c15 hf
    refine nd_aload_n (j := 1) dX6_tagged_55 rfl rfl ?_
    refine nd_dup dX6_tagged_56 rfl ?_
    refine nd_getI (k := 3) dX6_tagged_57 k_this rfl (Nat.le_of_ble_eq_true rfl) (nd_flO q1343) rfl ?_
    refine nd_iconst (v := 1) dX6_tagged_60 (by decide) ?_
    refine nd_iadd dX6_tagged_61 ?_
    refine nd_putN (k := 3) dX6_tagged_62 k_this rfl (Nat.le_of_ble_eq_true rfl) (nd_flO q1343) rfl rfl rfl ?_
    replace hf := bnE hf
    obtain ⟨h16, e_h16, hf⟩ := hf
    refine nd_hp e_h16 ?_
    refine nd_aload_n (j := 1) dX6_tagged_65 rfl rfl ?_
    refine nd_getP (k := 19) dX6_tagged_66 k_this rfl (Nat.le_of_ble_eq_true rfl) (nd_flO q1359) rfl (fun ok17 => ?_)
    replace hf := nnE hf
    obtain ⟨a18, e_a18, hf⟩ := hf
    refine nd_topr e_a18.symm ?_
    have k_a18 : nd_Kd a18 = 22 := nd_c1 (ok17 a18 e_a18)
    refine nd_iload_n (j := 0) dX6_tagged_69 rfl rfl ?_
    refine nd_aload_n (j := 1) dX6_tagged_70 rfl rfl ?_
    replace hf := caE hf
    obtain ⟨v20, h19, e_h19, hf⟩ := hf
    refine nd_Vi [vi v3, vr (some a18)] (tX6_look l w hfl F d k_this e_h19) rfl dX6_tagged_71 mw_X6_look (Or.inl q1538) k_this rfl q1540 qs31 (by omega) (by omega) (Nat.le_of_ble_eq_true rfl) ?_
    refine nd_bipush (v := 33) dX6_tagged_74 (by decide) ?_
    refine nd_icmp_ne (tgt := 83) dX6_tagged_76 (by decide) (fun c21 => ?_) (fun c21 => ?_)
    · replace hf := ifn c21 hf
      refine nd_iconst (v := 0) dX6_tagged_83 (by decide) ?_
      exact nd_loc [1, 0] rfl (tX6_tagged_84 l w hfl F d r _ _ _ _ _ k_this k_a18 _ hf)
    · replace hf := ifp c21 hf
      refine nd_iconst (v := 1) dX6_tagged_79 (by decide) ?_
      refine nd_goto (tgt := 84) dX6_tagged_80 (by decide) ?_
      exact nd_loc [1, 0] rfl (tX6_tagged_84 l w hfl F d r _ _ _ _ _ k_this k_a18 _ hf)
  · replace hf := ifp c15 hf
    refine nd_aload_n (j := 1) dX6_tagged_45 rfl rfl ?_
    refine nd_iconst (v := 1) dX6_tagged_46 (by decide) ?_
    refine nd_aload_n (j := 1) dX6_tagged_47 rfl rfl ?_
    refine nd_getI (k := 3) dX6_tagged_48 k_this rfl (Nat.le_of_ble_eq_true rfl) (nd_flO q1343) rfl ?_
    replace hf := caE hf
    obtain ⟨v23, h22, e_h22, hf⟩ := hf
    refine nd_Vi [] (tX6_stop l w hfl F d k_this e_h22) rfl dX6_tagged_51 mw_X6_stop (Or.inl q1545) k_this rfl q1547 qs32 (by omega) (by omega) (Nat.le_of_ble_eq_true rfl) ?_
    cases hf
    exact nd_iret (v := v23) dX6_tagged_54
def fX6_named (F d : Nat) (this : Nat) (p0 : Int32) (h : Hp) : Option (Int32 × Hp) :=
  nn (gP h 609 this) fun a2 => (
  ck (inb p0 (nd_Ln a2)) (
  if 0 ≤ (gA h a2 (Int32.toNatClampNeg p0)) then
  (nn (gP h 617 this) fun a6 => (
  nn (gP h 609 this) fun a8 => (
  ck (inb p0 (nd_Ln a8)) (
  ck (inb (gA h a8 (Int32.toNatClampNeg p0)) (nd_Ln a6)) (
  if ((gI h 605 this) + (gA h a6 (Int32.toNatClampNeg (gA h a8 (Int32.toNatClampNeg p0))))) < 6 then
  (bn (sI h 603 this ((gI h 603 this) + 1)) fun h12 => (
  nn (gP h12 609 this) fun a14 => (
  ck (inb p0 (nd_Ln a14)) (
  some ((gA h12 a14 (Int32.toNatClampNeg p0)), h12)))))
  else
  (ca (fX6_stop F d this 5 (gI h 603 this) h) fun v17 h16 => (
  some (v17, h16))))))))
  else
  (ca (fX6_stop F d this 3 (gI h 603 this) h) fun v19 h18 => (
  some (v19, h18)))))
theorem mw_X6_named : nd_MW yX6_named cX6_named 2 (some .int) 1 := ⟨q1576, q91, by decide, by decide, by decide +kernel⟩
set_option maxHeartbeats 4000000 in
theorem tX6_named (l : Launch) (w : Wd) (hfl : l.stackTraces = false) (F d : Nat) {this : Nat} {p0 : Int32} (k_this : nd_Kd this = 5) {h : Hp} {r : Int32 × Hp} (hf : fX6_named F d this p0 h = some r) : nd_C l w yX6_named cX6_named 2 (some .int) 1 22 [vr (some this), vi p0] h (.inl (some (vi r.1)), r.2) := by
  refine nd_start (as := [vr (some this), vi p0]) hfl (by decide) (Nat.le_of_ble_eq_true rfl) ?_
  unfold fX6_named at hf
  refine nd_eqL (L' := [(0, vr (some this)), (1, vi p0)]) rfl ?_
  refine nd_aload_n (j := 0) dX6_named_0 rfl rfl ?_
  refine nd_getP (k := 9) dX6_named_1 k_this rfl (Nat.le_of_ble_eq_true rfl) (nd_flO q1349) rfl (fun ok1 => ?_)
  replace hf := nnE hf
  obtain ⟨a2, e_a2, hf⟩ := hf
  refine nd_topr e_a2.symm ?_
  have k_a2 : nd_Kd a2 = 20 := nd_c1 (ok1 a2 e_a2)
  refine nd_iload_n (j := 1) dX6_named_4 rfl rfl ?_
  replace hf := ckE hf
  obtain ⟨c3, hf⟩ := hf
  refine nd_iald dX6_named_5 k_a2 c3 ?_
  refine nd_if_ge (tgt := 19) dX6_named_6 (by decide) (fun c4 => ?_) (fun c4 => ?_)
  · replace hf := ifp c4 hf
    refine nd_aload_n (j := 0) dX6_named_19 rfl rfl ?_
    refine nd_getI (k := 5) dX6_named_20 k_this rfl (Nat.le_of_ble_eq_true rfl) (nd_flO q1345) rfl ?_
    refine nd_aload_n (j := 0) dX6_named_23 rfl rfl ?_
    refine nd_getP (k := 17) dX6_named_24 k_this rfl (Nat.le_of_ble_eq_true rfl) (nd_flO q1357) rfl (fun ok5 => ?_)
    replace hf := nnE hf
    obtain ⟨a6, e_a6, hf⟩ := hf
    refine nd_topr e_a6.symm ?_
    have k_a6 : nd_Kd a6 = 20 := nd_c1 (ok5 a6 e_a6)
    refine nd_aload_n (j := 0) dX6_named_27 rfl rfl ?_
    refine nd_getP (k := 9) dX6_named_28 k_this rfl (Nat.le_of_ble_eq_true rfl) (nd_flO q1349) rfl (fun ok7 => ?_)
    replace hf := nnE hf
    obtain ⟨a8, e_a8, hf⟩ := hf
    refine nd_topr e_a8.symm ?_
    have k_a8 : nd_Kd a8 = 20 := nd_c1 (ok7 a8 e_a8)
    refine nd_iload_n (j := 1) dX6_named_31 rfl rfl ?_
    replace hf := ckE hf
    obtain ⟨c9, hf⟩ := hf
    refine nd_iald dX6_named_32 k_a8 c9 ?_
    replace hf := ckE hf
    obtain ⟨c10, hf⟩ := hf
    refine nd_iald dX6_named_33 k_a6 c10 ?_
    refine nd_iadd dX6_named_34 ?_
    refine nd_bipush (v := 6) dX6_named_35 (by decide) ?_
    refine nd_icmp_lt (tgt := 50) dX6_named_37 (by decide) (fun c11 => ?_) (fun c11 => ?_)
    · replace hf := ifp c11 hf
      refine nd_aload_n (j := 0) dX6_named_50 rfl rfl ?_
      refine nd_dup dX6_named_51 rfl ?_
      refine nd_getI (k := 3) dX6_named_52 k_this rfl (Nat.le_of_ble_eq_true rfl) (nd_flO q1343) rfl ?_
      refine nd_iconst (v := 1) dX6_named_55 (by decide) ?_
      refine nd_iadd dX6_named_56 ?_
      refine nd_putN (k := 3) dX6_named_57 k_this rfl (Nat.le_of_ble_eq_true rfl) (nd_flO q1343) rfl rfl rfl ?_
      replace hf := bnE hf
      obtain ⟨h12, e_h12, hf⟩ := hf
      refine nd_hp e_h12 ?_
      refine nd_aload_n (j := 0) dX6_named_60 rfl rfl ?_
      refine nd_getP (k := 9) dX6_named_61 k_this rfl (Nat.le_of_ble_eq_true rfl) (nd_flO q1349) rfl (fun ok13 => ?_)
      replace hf := nnE hf
      obtain ⟨a14, e_a14, hf⟩ := hf
      refine nd_topr e_a14.symm ?_
      have k_a14 : nd_Kd a14 = 20 := nd_c1 (ok13 a14 e_a14)
      refine nd_iload_n (j := 1) dX6_named_64 rfl rfl ?_
      replace hf := ckE hf
      obtain ⟨c15, hf⟩ := hf
      refine nd_iald dX6_named_65 k_a14 c15 ?_
      cases hf
      exact nd_iret (v := (gA h12 a14 (Int32.toNatClampNeg p0))) dX6_named_66
    · replace hf := ifn c11 hf
      refine nd_aload_n (j := 0) dX6_named_40 rfl rfl ?_
      refine nd_iconst (v := 5) dX6_named_41 (by decide) ?_
      refine nd_aload_n (j := 0) dX6_named_42 rfl rfl ?_
      refine nd_getI (k := 3) dX6_named_43 k_this rfl (Nat.le_of_ble_eq_true rfl) (nd_flO q1343) rfl ?_
      replace hf := caE hf
      obtain ⟨v17, h16, e_h16, hf⟩ := hf
      refine nd_Vi [] (tX6_stop l w hfl F d k_this e_h16) rfl dX6_named_46 mw_X6_stop (Or.inl q1545) k_this rfl q1547 qs32 (by omega) (by omega) (Nat.le_of_ble_eq_true rfl) ?_
      cases hf
      exact nd_iret (v := v17) dX6_named_49
  · replace hf := ifn c4 hf
    refine nd_aload_n (j := 0) dX6_named_9 rfl rfl ?_
    refine nd_iconst (v := 3) dX6_named_10 (by decide) ?_
    refine nd_aload_n (j := 0) dX6_named_11 rfl rfl ?_
    refine nd_getI (k := 3) dX6_named_12 k_this rfl (Nat.le_of_ble_eq_true rfl) (nd_flO q1343) rfl ?_
    replace hf := caE hf
    obtain ⟨v19, h18, e_h18, hf⟩ := hf
    refine nd_Vi [] (tX6_stop l w hfl F d k_this e_h18) rfl dX6_named_15 mw_X6_stop (Or.inl q1545) k_this rfl q1547 qs32 (by omega) (by omega) (Nat.le_of_ble_eq_true rfl) ?_
    cases hf
    exact nd_iret (v := v19) dX6_named_18
def fX6_numeral_149 (F d : Nat) (this : Nat) (s0 : Nat) (s1 : Int32) (h : Hp) : Option (Int32 × Hp) :=
  bn (sI h 606 s0 s1) fun h1 => (
  if (gI h1 604 this) = 0 then
  (some (1, h1))
  else
  (some (0, h1)))
def fX6_numeral_138 (F d : Nat) (this : Nat) (x1 : Int32) (x2 : Int32) (h : Hp) : Option (Int32 × Hp) :=
  if x1 = 0 then
  (fX6_numeral_149 F d this this x2 h)
  else
  (fX6_numeral_149 F d this this (-x2) h)
def fX6_numeral_114 (F d : Nat) (this : Nat) (x1 : Int32) (x2 : Int32) (h : Hp) : Option (Int32 × Hp) :=
  ca (fX6_look F d this h) fun v2 h1 => (
  ca (fX6_in F d v2 48 57 h1) fun v4 h3 => (
  if v4 = 0 then
  (fX6_numeral_138 F d this x1 x2 h3)
  else
  (ca (fX6_stop F d this 1 (gI h3 603 this) h3) fun v7 h6 => (
  fX6_numeral_138 F d this x1 x2 h6))))
def fX6_numeral_66 (F d : Nat) : Nat → Nat → Int32 → Int32 → Int32 → Hp → Option (Int32 × Hp)
  | 0, _, _, _, _, _ => none
  | n + 1, this, x1, x2, x3, h =>
    ca (fX6_look F d this h) fun v2 h1 => (
    ca (fX6_in F d v2 48 57 h1) fun v4 h3 => (
    if v4 = 0 then
    (fX6_numeral_114 F d this x1 x2 h3)
    else
    (if x3 ≤ (gI h3 603 this) then
    (fX6_numeral_114 F d this x1 x2 h3)
    else
    (ca (fX6_look F d this h3) fun v8 h7 => (
    bn (((10 * x2) + v8) - 48) fun v9 => (
    bn (sI h7 603 this ((gI h7 603 this) + 1)) fun h10 => (
    fX6_numeral_66 F d n this x1 v9 x3 h10)))))))
def fX6_numeral_57 (F d : Nat) (this : Nat) (x1 : Int32) (h : Hp) : Option (Int32 × Hp) :=
  bn ((gI h 603 this) + 5) fun v1 => (
  fX6_numeral_66 F d F this x1 0 v1 h)
def fX6_numeral_29 (F d : Nat) (this : Nat) (x1 : Int32) (s0 : Nat) (s1 : Int32) (s2 : Int32) (h : Hp) : Option (Int32 × Hp) :=
  bn (sI h 603 s0 (s1 + s2)) fun h1 => (
  ca (fX6_look F d this h1) fun v3 h2 => (
  ca (fX6_in F d v3 48 57 h2) fun v5 h4 => (
  if v5 = 0 then
  (ca (fX6_stop F d this 1 (gI h4 603 this) h4) fun v8 h7 => (
  fX6_numeral_57 F d this x1 h7))
  else
  (fX6_numeral_57 F d this x1 h4))))
def fX6_numeral_14 (F d : Nat) (this : Nat) (s0 : Int32) (h : Hp) : Option (Int32 × Hp) :=
  if s0 = 0 then
  (fX6_numeral_29 F d this s0 this (gI h 603 this) 0 h)
  else
  (fX6_numeral_29 F d this s0 this (gI h 603 this) 1 h)
def fX6_numeral (F d : Nat) (this : Nat) (h : Hp) : Option (Int32 × Hp) :=
  ca (fX6_look F d this h) fun v2 h1 => (
  if v2 = 45 then
  (fX6_numeral_14 F d this 1 h1)
  else
  (fX6_numeral_14 F d this 0 h1))
theorem mw_X6_numeral : nd_MW yX6_numeral cX6_numeral 4 (some .boolean) 0 := ⟨q1584, q91, by decide, by decide, by decide +kernel⟩
set_option maxHeartbeats 4000000 in
theorem tX6_numeral_149 (l : Launch) (w : Wd) (hfl : l.stackTraces = false) (F d : Nat) (r : Int32 × Hp) (this : Nat) (s0 : Nat) (s1 : Int32) (k_this : nd_Kd this = 5) (k_s0 : nd_Kd s0 = 5) (h : Hp) (hf : fX6_numeral_149 F d this s0 s1 h = some r) : nd_V l w yX6_numeral cX6_numeral 4 (some .boolean) 1 22 (.inl (some (vi r.1)), r.2) h 149 [(0, vr (some this))] [vi s1, vr (some s0)] := by
  unfold fX6_numeral_149 at hf
  refine nd_putN (k := 6) dX6_numeral_149 k_s0 rfl (Nat.le_of_ble_eq_true rfl) (nd_flO q1346) rfl rfl rfl ?_
  replace hf := bnE hf
  obtain ⟨h1, e_h1, hf⟩ := hf
  refine nd_hp e_h1 ?_
  refine nd_aload_n (j := 0) dX6_numeral_152 rfl rfl ?_
  refine nd_getI (k := 4) dX6_numeral_153 k_this rfl (Nat.le_of_ble_eq_true rfl) (nd_flO q1344) rfl ?_
  refine nd_if_ne (tgt := 163) dX6_numeral_156 (by decide) (fun c2 => ?_) (fun c2 => ?_)
  · replace hf := ifn c2 hf
    refine nd_iconst (v := 0) dX6_numeral_163 (by decide) ?_
    cases hf
    exact nd_zret (v := 0) (by decide) dX6_numeral_164
  · replace hf := ifp c2 hf
    refine nd_iconst (v := 1) dX6_numeral_159 (by decide) ?_
    refine nd_goto (tgt := 164) dX6_numeral_160 (by decide) ?_
    cases hf
    exact nd_zret (v := 1) (by decide) dX6_numeral_164
set_option maxHeartbeats 4000000 in
theorem tX6_numeral_138 (l : Launch) (w : Wd) (hfl : l.stackTraces = false) (F d : Nat) (r : Int32 × Hp) (this : Nat) (x1 : Int32) (x2 : Int32) (k_this : nd_Kd this = 5) (h : Hp) (hf : fX6_numeral_138 F d this x1 x2 h = some r) : nd_V l w yX6_numeral cX6_numeral 4 (some .boolean) 1 22 (.inl (some (vi r.1)), r.2) h 138 [(0, vr (some this)), (1, vi x1), (2, vi x2)] [] := by
  unfold fX6_numeral_138 at hf
  refine nd_aload_n (j := 0) dX6_numeral_138 rfl rfl ?_
  refine nd_iload_n (j := 1) dX6_numeral_139 rfl rfl ?_
  refine nd_if_eq (tgt := 148) dX6_numeral_140 (by decide) (fun c1 => ?_) (fun c1 => ?_)
  · replace hf := ifp c1 hf
    refine nd_iload_n (j := 2) dX6_numeral_148 rfl rfl ?_
    exact nd_loc [0] rfl (tX6_numeral_149 l w hfl F d r _ _ _ k_this k_this _ hf)
  · replace hf := ifn c1 hf
    refine nd_iload_n (j := 2) dX6_numeral_143 rfl rfl ?_
    refine nd_ineg dX6_numeral_144 ?_
    refine nd_goto (tgt := 149) dX6_numeral_145 (by decide) ?_
    exact nd_loc [0] rfl (tX6_numeral_149 l w hfl F d r _ _ _ k_this k_this _ hf)
set_option maxHeartbeats 4000000 in
theorem tX6_numeral_114 (l : Launch) (w : Wd) (hfl : l.stackTraces = false) (F d : Nat) (r : Int32 × Hp) (this : Nat) (x1 : Int32) (x2 : Int32) (k_this : nd_Kd this = 5) (h : Hp) (hf : fX6_numeral_114 F d this x1 x2 h = some r) : nd_V l w yX6_numeral cX6_numeral 4 (some .boolean) 1 22 (.inl (some (vi r.1)), r.2) h 114 [(0, vr (some this)), (1, vi x1), (2, vi x2)] [] := by
  unfold fX6_numeral_114 at hf
  refine nd_aload_n (j := 0) dX6_numeral_114 rfl rfl ?_
  replace hf := caE hf
  obtain ⟨v2, h1, e_h1, hf⟩ := hf
  refine nd_Vi [] (tX6_look l w hfl F d k_this e_h1) rfl dX6_numeral_115 mw_X6_look (Or.inl q1538) k_this rfl q1540 qs31 (by omega) (by omega) (Nat.le_of_ble_eq_true rfl) ?_
  refine nd_bipush (v := 48) dX6_numeral_118 (by decide) ?_
  refine nd_bipush (v := 57) dX6_numeral_120 (by decide) ?_
  replace hf := caE hf
  obtain ⟨v4, h3, e_h3, hf⟩ := hf
  refine nd_Si [] (tX6_in l w hfl F d e_h3) rfl dX6_numeral_122 mw_X6_in (Or.inl q1542) q1543 (by omega) (by omega) (Nat.le_of_ble_eq_true rfl) ?_
  refine nd_if_eq (tgt := 138) dX6_numeral_125 (by decide) (fun c5 => ?_) (fun c5 => ?_)
  · replace hf := ifp c5 hf
    exact nd_loc [0, 1, 2] rfl (tX6_numeral_138 l w hfl F d r _ _ _ k_this _ hf)
  · replace hf := ifn c5 hf
    refine nd_aload_n (j := 0) dX6_numeral_128 rfl rfl ?_
    refine nd_iconst (v := 1) dX6_numeral_129 (by decide) ?_
    refine nd_aload_n (j := 0) dX6_numeral_130 rfl rfl ?_
    refine nd_getI (k := 3) dX6_numeral_131 k_this rfl (Nat.le_of_ble_eq_true rfl) (nd_flO q1343) rfl ?_
    replace hf := caE hf
    obtain ⟨v7, h6, e_h6, hf⟩ := hf
    refine nd_Vi [] (tX6_stop l w hfl F d k_this e_h6) rfl dX6_numeral_134 mw_X6_stop (Or.inl q1545) k_this rfl q1547 qs32 (by omega) (by omega) (Nat.le_of_ble_eq_true rfl) ?_
    refine nd_pop dX6_numeral_137 rfl ?_
    exact nd_loc [0, 1, 2] rfl (tX6_numeral_138 l w hfl F d r _ _ _ k_this _ hf)
set_option maxHeartbeats 4000000 in
theorem tX6_numeral_66 (l : Launch) (w : Wd) (hfl : l.stackTraces = false) (F d : Nat) (r : Int32 × Hp) : ∀ (n : Nat) (this : Nat) (x1 : Int32) (x2 : Int32) (x3 : Int32) (k_this : nd_Kd this = 5) (h : Hp), fX6_numeral_66 F d n this x1 x2 x3 h = some r → nd_V l w yX6_numeral cX6_numeral 4 (some .boolean) 1 22 (.inl (some (vi r.1)), r.2) h 66 [(0, vr (some this)), (1, vi x1), (2, vi x2), (3, vi x3)] [] := by
  intro n
  induction n with
  | zero => intro _ _ _ _ _ _ hf; cases hf
  | succ n ih =>
    intro this x1 x2 x3 k_this h hf
    unfold fX6_numeral_66 at hf
    refine nd_aload_n (j := 0) dX6_numeral_66 rfl rfl ?_
    replace hf := caE hf
    obtain ⟨v2, h1, e_h1, hf⟩ := hf
    refine nd_Vi [] (tX6_look l w hfl F d k_this e_h1) rfl dX6_numeral_67 mw_X6_look (Or.inl q1538) k_this rfl q1540 qs31 (by omega) (by omega) (Nat.le_of_ble_eq_true rfl) ?_
    refine nd_bipush (v := 48) dX6_numeral_70 (by decide) ?_
    refine nd_bipush (v := 57) dX6_numeral_72 (by decide) ?_
    replace hf := caE hf
    obtain ⟨v4, h3, e_h3, hf⟩ := hf
    refine nd_Si [] (tX6_in l w hfl F d e_h3) rfl dX6_numeral_74 mw_X6_in (Or.inl q1542) q1543 (by omega) (by omega) (Nat.le_of_ble_eq_true rfl) ?_
    refine nd_if_eq (tgt := 114) dX6_numeral_77 (by decide) (fun c5 => ?_) (fun c5 => ?_)
    · replace hf := ifp c5 hf
      exact nd_loc [0, 1, 2] rfl (tX6_numeral_114 l w hfl F d r _ _ _ k_this _ hf)
    · replace hf := ifn c5 hf
      refine nd_aload_n (j := 0) dX6_numeral_80 rfl rfl ?_
      refine nd_getI (k := 3) dX6_numeral_81 k_this rfl (Nat.le_of_ble_eq_true rfl) (nd_flO q1343) rfl ?_
      refine nd_iload_n (j := 3) dX6_numeral_84 rfl rfl ?_
      refine nd_icmp_ge (tgt := 114) dX6_numeral_85 (by decide) (fun c6 => ?_) (fun c6 => ?_)
      · replace hf := ifp c6 hf
        exact nd_loc [0, 1, 2] rfl (tX6_numeral_114 l w hfl F d r _ _ _ k_this _ hf)
      · replace hf := ifn c6 hf
        refine nd_bipush (v := 10) dX6_numeral_88 (by decide) ?_
        refine nd_iload_n (j := 2) dX6_numeral_90 rfl rfl ?_
        refine nd_imul dX6_numeral_91 ?_
        refine nd_aload_n (j := 0) dX6_numeral_92 rfl rfl ?_
        replace hf := caE hf
        obtain ⟨v8, h7, e_h7, hf⟩ := hf
        refine nd_Vi [vi (10 * x2)] (tX6_look l w hfl F d k_this e_h7) rfl dX6_numeral_93 mw_X6_look (Or.inl q1538) k_this rfl q1540 qs31 (by omega) (by omega) (Nat.le_of_ble_eq_true rfl) ?_
        refine nd_iadd dX6_numeral_96 ?_
        refine nd_bipush (v := 48) dX6_numeral_97 (by decide) ?_
        refine nd_isub dX6_numeral_99 ?_
        replace hf := bnE hf
        obtain ⟨v9, e_v9, hf⟩ := hf
        refine nd_top e_v9 ?_
        refine nd_istore_n [(2, vi v9), (0, vr (some this)), (1, vi x1), (3, vi x3)] dX6_numeral_100 rfl (Nat.le_of_ble_eq_true rfl) rfl ?_
        refine nd_aload_n (j := 1) dX6_numeral_101 rfl rfl ?_
        refine nd_dup dX6_numeral_102 rfl ?_
        refine nd_getI (k := 3) dX6_numeral_103 k_this rfl (Nat.le_of_ble_eq_true rfl) (nd_flO q1343) rfl ?_
        refine nd_iconst (v := 1) dX6_numeral_106 (by decide) ?_
        refine nd_iadd dX6_numeral_107 ?_
        refine nd_putN (k := 3) dX6_numeral_108 k_this rfl (Nat.le_of_ble_eq_true rfl) (nd_flO q1343) rfl rfl rfl ?_
        replace hf := bnE hf
        obtain ⟨h10, e_h10, hf⟩ := hf
        refine nd_hp e_h10 ?_
        refine nd_goto (tgt := 66) dX6_numeral_111 (by decide) ?_
        exact nd_loc [1, 2, 0, 3] rfl (ih _ _ _ _ k_this _ hf)
set_option maxHeartbeats 4000000 in
theorem tX6_numeral_57 (l : Launch) (w : Wd) (hfl : l.stackTraces = false) (F d : Nat) (r : Int32 × Hp) (this : Nat) (x1 : Int32) (k_this : nd_Kd this = 5) (h : Hp) (hf : fX6_numeral_57 F d this x1 h = some r) : nd_V l w yX6_numeral cX6_numeral 4 (some .boolean) 1 22 (.inl (some (vi r.1)), r.2) h 57 [(0, vr (some this)), (1, vi x1)] [] := by
  unfold fX6_numeral_57 at hf
  refine nd_iconst (v := 0) dX6_numeral_57 (by decide) ?_
  refine nd_istore_n [(2, vi 0), (0, vr (some this)), (1, vi x1)] dX6_numeral_58 rfl (Nat.le_of_ble_eq_true rfl) rfl ?_
  refine nd_aload_n (j := 1) dX6_numeral_59 rfl rfl ?_
  refine nd_getI (k := 3) dX6_numeral_60 k_this rfl (Nat.le_of_ble_eq_true rfl) (nd_flO q1343) rfl ?_
  refine nd_iconst (v := 5) dX6_numeral_63 (by decide) ?_
  refine nd_iadd dX6_numeral_64 ?_
  replace hf := bnE hf
  obtain ⟨v1, e_v1, hf⟩ := hf
  refine nd_top e_v1 ?_
  refine nd_istore_n [(3, vi v1), (2, vi 0), (0, vr (some this)), (1, vi x1)] dX6_numeral_65 rfl (Nat.le_of_ble_eq_true rfl) rfl ?_
  exact nd_loc [2, 3, 1, 0] rfl (tX6_numeral_66 l w hfl F d r F _ _ _ _ k_this _ hf)
set_option maxHeartbeats 4000000 in
theorem tX6_numeral_29 (l : Launch) (w : Wd) (hfl : l.stackTraces = false) (F d : Nat) (r : Int32 × Hp) (this : Nat) (x1 : Int32) (s0 : Nat) (s1 : Int32) (s2 : Int32) (k_this : nd_Kd this = 5) (k_s0 : nd_Kd s0 = 5) (h : Hp) (hf : fX6_numeral_29 F d this x1 s0 s1 s2 h = some r) : nd_V l w yX6_numeral cX6_numeral 4 (some .boolean) 1 22 (.inl (some (vi r.1)), r.2) h 29 [(0, vr (some this)), (1, vi x1)] [vi s2, vi s1, vr (some s0)] := by
  unfold fX6_numeral_29 at hf
  refine nd_iadd dX6_numeral_29 ?_
  refine nd_putN (k := 3) dX6_numeral_30 k_s0 rfl (Nat.le_of_ble_eq_true rfl) (nd_flO q1343) rfl rfl rfl ?_
  replace hf := bnE hf
  obtain ⟨h1, e_h1, hf⟩ := hf
  refine nd_hp e_h1 ?_
  refine nd_aload_n (j := 0) dX6_numeral_33 rfl rfl ?_
  replace hf := caE hf
  obtain ⟨v3, h2, e_h2, hf⟩ := hf
  refine nd_Vi [] (tX6_look l w hfl F d k_this e_h2) rfl dX6_numeral_34 mw_X6_look (Or.inl q1538) k_this rfl q1540 qs31 (by omega) (by omega) (Nat.le_of_ble_eq_true rfl) ?_
  refine nd_bipush (v := 48) dX6_numeral_37 (by decide) ?_
  refine nd_bipush (v := 57) dX6_numeral_39 (by decide) ?_
  replace hf := caE hf
  obtain ⟨v5, h4, e_h4, hf⟩ := hf
  refine nd_Si [] (tX6_in l w hfl F d e_h4) rfl dX6_numeral_41 mw_X6_in (Or.inl q1542) q1543 (by omega) (by omega) (Nat.le_of_ble_eq_true rfl) ?_
  refine nd_if_ne (tgt := 57) dX6_numeral_44 (by decide) (fun c6 => ?_) (fun c6 => ?_)
  · replace hf := ifn c6 hf
    exact nd_loc [0, 1] rfl (tX6_numeral_57 l w hfl F d r _ _ k_this _ hf)
  · replace hf := ifp c6 hf
    refine nd_aload_n (j := 0) dX6_numeral_47 rfl rfl ?_
    refine nd_iconst (v := 1) dX6_numeral_48 (by decide) ?_
    refine nd_aload_n (j := 0) dX6_numeral_49 rfl rfl ?_
    refine nd_getI (k := 3) dX6_numeral_50 k_this rfl (Nat.le_of_ble_eq_true rfl) (nd_flO q1343) rfl ?_
    replace hf := caE hf
    obtain ⟨v8, h7, e_h7, hf⟩ := hf
    refine nd_Vi [] (tX6_stop l w hfl F d k_this e_h7) rfl dX6_numeral_53 mw_X6_stop (Or.inl q1545) k_this rfl q1547 qs32 (by omega) (by omega) (Nat.le_of_ble_eq_true rfl) ?_
    refine nd_pop dX6_numeral_56 rfl ?_
    exact nd_loc [0, 1] rfl (tX6_numeral_57 l w hfl F d r _ _ k_this _ hf)
set_option maxHeartbeats 4000000 in
theorem tX6_numeral_14 (l : Launch) (w : Wd) (hfl : l.stackTraces = false) (F d : Nat) (r : Int32 × Hp) (this : Nat) (s0 : Int32) (k_this : nd_Kd this = 5) (h : Hp) (hf : fX6_numeral_14 F d this s0 h = some r) : nd_V l w yX6_numeral cX6_numeral 4 (some .boolean) 1 22 (.inl (some (vi r.1)), r.2) h 14 [(0, vr (some this))] [vi s0] := by
  unfold fX6_numeral_14 at hf
  refine nd_istore_n [(1, vi s0), (0, vr (some this))] dX6_numeral_14 rfl (Nat.le_of_ble_eq_true rfl) rfl ?_
  refine nd_aload_n (j := 1) dX6_numeral_15 rfl rfl ?_
  refine nd_dup dX6_numeral_16 rfl ?_
  refine nd_getI (k := 3) dX6_numeral_17 k_this rfl (Nat.le_of_ble_eq_true rfl) (nd_flO q1343) rfl ?_
  refine nd_iload_n (j := 0) dX6_numeral_20 rfl rfl ?_
  refine nd_if_eq (tgt := 28) dX6_numeral_21 (by decide) (fun c1 => ?_) (fun c1 => ?_)
  · replace hf := ifp c1 hf
    refine nd_iconst (v := 0) dX6_numeral_28 (by decide) ?_
    exact nd_loc [1, 0] rfl (tX6_numeral_29 l w hfl F d r _ _ _ _ _ k_this k_this _ hf)
  · replace hf := ifn c1 hf
    refine nd_iconst (v := 1) dX6_numeral_24 (by decide) ?_
    refine nd_goto (tgt := 29) dX6_numeral_25 (by decide) ?_
    exact nd_loc [1, 0] rfl (tX6_numeral_29 l w hfl F d r _ _ _ _ _ k_this k_this _ hf)
set_option maxHeartbeats 4000000 in
theorem tX6_numeral (l : Launch) (w : Wd) (hfl : l.stackTraces = false) (F d : Nat) {this : Nat} (k_this : nd_Kd this = 5) {h : Hp} {r : Int32 × Hp} (hf : fX6_numeral F d this h = some r) : nd_C l w yX6_numeral cX6_numeral 4 (some .boolean) 1 22 [vr (some this)] h (.inl (some (vi r.1)), r.2) := by
  refine nd_start (as := [vr (some this)]) hfl (by decide) (Nat.le_of_ble_eq_true rfl) ?_
  unfold fX6_numeral at hf
  refine nd_eqL (L' := [(0, vr (some this))]) rfl ?_
  refine nd_aload_n (j := 0) dX6_numeral_0 rfl rfl ?_
  replace hf := caE hf
  obtain ⟨v2, h1, e_h1, hf⟩ := hf
  refine nd_Vi [] (tX6_look l w hfl F d k_this e_h1) rfl dX6_numeral_1 mw_X6_look (Or.inl q1538) k_this rfl q1540 qs31 (by omega) (by omega) (Nat.le_of_ble_eq_true rfl) ?_
  refine nd_bipush (v := 45) dX6_numeral_4 (by decide) ?_
  refine nd_icmp_ne (tgt := 13) dX6_numeral_6 (by decide) (fun c3 => ?_) (fun c3 => ?_)
  · replace hf := ifn c3 hf
    refine nd_iconst (v := 0) dX6_numeral_13 (by decide) ?_
    exact nd_loc [0] rfl (tX6_numeral_14 l w hfl F d r _ _ k_this _ hf)
  · replace hf := ifp c3 hf
    refine nd_iconst (v := 1) dX6_numeral_9 (by decide) ?_
    refine nd_goto (tgt := 14) dX6_numeral_10 (by decide) ?_
    exact nd_loc [0] rfl (tX6_numeral_14 l w hfl F d r _ _ k_this _ hf)
def fX6_ranged_159 (F d : Nat) (this : Nat) (h : Hp) : Option (Hp) :=
  ca (fX6_need F d this 41 h) fun v2 h1 => (
  some h1)
def fX6_ranged_146 (F d : Nat) (this : Nat) (h : Hp) : Option (Hp) :=
  ca (fX6_stop F d this 4 (gI h 603 this) h) fun v2 h1 => (
  some h1)
def fX6_ranged_117 (F d : Nat) (this : Nat) (x1 : Int32) (s0 : Int32) (h : Hp) : Option (Hp) :=
  ca (fX6_look F d this h) fun v2 h1 => (
  if v2 = 41 then
  (nn (gP h1 612 this) fun a5 => (
  ck (inb x1 (nd_Ln a5)) (
  nn (gP h1 613 this) fun a8 => (
  ck (inb x1 (nd_Ln a8)) (
  if (gA h1 a8 (Int32.toNatClampNeg x1)) < (gA h1 a5 (Int32.toNatClampNeg x1)) then
  (fX6_ranged_146 F d this h1)
  else
  (if s0 = 0 then
  (fX6_ranged_146 F d this h1)
  else
  (fX6_ranged_159 F d this h1)))))))
  else
  (fX6_ranged_159 F d this h1))
def fX6_ranged_116 (F d : Nat) (this : Nat) (x1 : Int32) (h : Hp) : Option (Hp) :=
  fX6_ranged_117 F d this x1 0 h
def fX6_ranged (F d : Nat) (this : Nat) (p0 : Int32) (p1 : Int32) (h : Hp) : Option (Hp) :=
  bn (sI h 603 this ((gI h 603 this) + 1)) fun h1 => (
  ca (fX6_numeral F d this h1) fun v3 h2 => (
  if v3 = 0 then
  (some h2)
  else
  (nn (gP h2 612 this) fun a6 => (
  ck (inb p0 (nd_Ln a6)) (
  bn (sA h2 a6 (Int32.toNatClampNeg p0) (gI h2 606 this)) fun h8 => (
  ca (fX6_need F d this 44 h8) fun v10 h9 => (
  if v10 = 0 then
  (some h9)
  else
  (ca (fX6_numeral F d this h9) fun v13 h12 => (
  if v13 = 0 then
  (some h12)
  else
  (nn (gP h12 613 this) fun a16 => (
  ck (inb p0 (nd_Ln a16)) (
  bn (sA h12 a16 (Int32.toNatClampNeg p0) (gI h12 606 this)) fun h18 => (
  nn (gP h18 618 this) fun a20 => (
  ck (inb p0 (nd_Ln a20)) (
  bn (sA h18 a20 (Int32.toNatClampNeg p0) 1) fun h22 => (
  if p1 = 0 then
  (nn (gP h22 612 this) fun a25 => (
  ck (inb p0 (nd_Ln a25)) (
  if (gA h22 a25 (Int32.toNatClampNeg p0)) < 0 then
  (fX6_ranged_116 F d this p0 h22)
  else
  (nn (gP h22 613 this) fun a29 => (
  ck (inb p0 (nd_Ln a29)) (
  if 20 < (gA h22 a29 (Int32.toNatClampNeg p0)) then
  (fX6_ranged_116 F d this p0 h22)
  else
  (fX6_ranged_117 F d this p0 1 h22)))))))
  else
  (nn (gP h22 613 this) fun a33 => (
  ck (inb p0 (nd_Ln a33)) (
  nn (gP h22 612 this) fun a36 => (
  ck (inb p0 (nd_Ln a36)) (
  if 65536 ≤ ((gA h22 a33 (Int32.toNatClampNeg p0)) - (gA h22 a36 (Int32.toNatClampNeg p0))) then
  (fX6_ranged_117 F d this p0 0 h22)
  else
  (fX6_ranged_117 F d this p0 1 h22))))))))))))))))))))))
theorem mw_X6_ranged : nd_MW yX6_ranged cX6_ranged 4 none 2 := ⟨q1580, q91, by decide, by decide, by decide +kernel⟩
set_option maxHeartbeats 4000000 in
theorem tX6_ranged_159 (l : Launch) (w : Wd) (hfl : l.stackTraces = false) (F d : Nat) (r : Hp) (this : Nat) (k_this : nd_Kd this = 5) (h : Hp) (hf : fX6_ranged_159 F d this h = some r) : nd_V l w yX6_ranged cX6_ranged 4 none 2 45 (.inl none, r) h 159 [(0, vr (some this))] [] := by
  unfold fX6_ranged_159 at hf
  refine nd_aload_n (j := 0) dX6_ranged_159 rfl rfl ?_
  refine nd_bipush (v := 41) dX6_ranged_160 (by decide) ?_
  replace hf := caE hf
  obtain ⟨v2, h1, e_h1, hf⟩ := hf
  refine nd_Vi [] (tX6_need l w hfl F d k_this e_h1) rfl dX6_ranged_162 mw_X6_need (Or.inl q1549) k_this rfl q1551 qs33 (by omega) (by omega) (Nat.le_of_ble_eq_true rfl) ?_
  refine nd_pop dX6_ranged_165 rfl ?_
  cases hf
  exact nd_vret dX6_ranged_166
set_option maxHeartbeats 4000000 in
theorem tX6_ranged_146 (l : Launch) (w : Wd) (hfl : l.stackTraces = false) (F d : Nat) (r : Hp) (this : Nat) (k_this : nd_Kd this = 5) (h : Hp) (hf : fX6_ranged_146 F d this h = some r) : nd_V l w yX6_ranged cX6_ranged 4 none 2 45 (.inl none, r) h 146 [(0, vr (some this))] [] := by
  unfold fX6_ranged_146 at hf
  refine nd_aload_n (j := 0) dX6_ranged_146 rfl rfl ?_
  refine nd_iconst (v := 4) dX6_ranged_147 (by decide) ?_
  refine nd_aload_n (j := 0) dX6_ranged_148 rfl rfl ?_
  refine nd_getI (k := 3) dX6_ranged_149 k_this rfl (Nat.le_of_ble_eq_true rfl) (nd_flO q1343) rfl ?_
  replace hf := caE hf
  obtain ⟨v2, h1, e_h1, hf⟩ := hf
  refine nd_Vi [] (tX6_stop l w hfl F d k_this e_h1) rfl dX6_ranged_152 mw_X6_stop (Or.inl q1545) k_this rfl q1547 qs32 (by omega) (by omega) (Nat.le_of_ble_eq_true rfl) ?_
  refine nd_pop dX6_ranged_155 rfl ?_
  refine nd_goto (tgt := 166) dX6_ranged_156 (by decide) ?_
  cases hf
  exact nd_vret dX6_ranged_166
set_option maxHeartbeats 4000000 in
theorem tX6_ranged_117 (l : Launch) (w : Wd) (hfl : l.stackTraces = false) (F d : Nat) (r : Hp) (this : Nat) (x1 : Int32) (s0 : Int32) (k_this : nd_Kd this = 5) (h : Hp) (hf : fX6_ranged_117 F d this x1 s0 h = some r) : nd_V l w yX6_ranged cX6_ranged 4 none 2 45 (.inl none, r) h 117 [(0, vr (some this)), (1, vi x1)] [vi s0] := by
  unfold fX6_ranged_117 at hf
  refine nd_istore_n [(3, vi s0), (0, vr (some this)), (1, vi x1)] dX6_ranged_117 rfl (Nat.le_of_ble_eq_true rfl) rfl ?_
  refine nd_aload_n (j := 1) dX6_ranged_118 rfl rfl ?_
  replace hf := caE hf
  obtain ⟨v2, h1, e_h1, hf⟩ := hf
  refine nd_Vi [] (tX6_look l w hfl F d k_this e_h1) rfl dX6_ranged_119 mw_X6_look (Or.inl q1538) k_this rfl q1540 qs31 (by omega) (by omega) (Nat.le_of_ble_eq_true rfl) ?_
  refine nd_bipush (v := 41) dX6_ranged_122 (by decide) ?_
  refine nd_icmp_ne (tgt := 159) dX6_ranged_124 (by decide) (fun c3 => ?_) (fun c3 => ?_)
  · replace hf := ifn c3 hf
    exact nd_loc [1] rfl (tX6_ranged_159 l w hfl F d r _ k_this _ hf)
  · replace hf := ifp c3 hf
    refine nd_aload_n (j := 1) dX6_ranged_127 rfl rfl ?_
    refine nd_getP (k := 12) dX6_ranged_128 k_this rfl (Nat.le_of_ble_eq_true rfl) (nd_flO q1352) rfl (fun ok4 => ?_)
    replace hf := nnE hf
    obtain ⟨a5, e_a5, hf⟩ := hf
    refine nd_topr e_a5.symm ?_
    have k_a5 : nd_Kd a5 = 20 := nd_c1 (ok4 a5 e_a5)
    refine nd_iload_n (j := 2) dX6_ranged_131 rfl rfl ?_
    replace hf := ckE hf
    obtain ⟨c6, hf⟩ := hf
    refine nd_iald dX6_ranged_132 k_a5 c6 ?_
    refine nd_aload_n (j := 1) dX6_ranged_133 rfl rfl ?_
    refine nd_getP (k := 13) dX6_ranged_134 k_this rfl (Nat.le_of_ble_eq_true rfl) (nd_flO q1353) rfl (fun ok7 => ?_)
    replace hf := nnE hf
    obtain ⟨a8, e_a8, hf⟩ := hf
    refine nd_topr e_a8.symm ?_
    have k_a8 : nd_Kd a8 = 20 := nd_c1 (ok7 a8 e_a8)
    refine nd_iload_n (j := 2) dX6_ranged_137 rfl rfl ?_
    replace hf := ckE hf
    obtain ⟨c9, hf⟩ := hf
    refine nd_iald dX6_ranged_138 k_a8 c9 ?_
    refine nd_icmp_gt (tgt := 146) dX6_ranged_139 (by decide) (fun c10 => ?_) (fun c10 => ?_)
    · replace hf := ifp c10 hf
      exact nd_loc [1] rfl (tX6_ranged_146 l w hfl F d r _ k_this _ hf)
    · replace hf := ifn c10 hf
      refine nd_iload_n (j := 0) dX6_ranged_142 rfl rfl ?_
      refine nd_if_ne (tgt := 159) dX6_ranged_143 (by decide) (fun c11 => ?_) (fun c11 => ?_)
      · replace hf := ifn c11 hf
        exact nd_loc [1] rfl (tX6_ranged_159 l w hfl F d r _ k_this _ hf)
      · replace hf := ifp c11 hf
        exact nd_loc [1] rfl (tX6_ranged_146 l w hfl F d r _ k_this _ hf)
set_option maxHeartbeats 4000000 in
theorem tX6_ranged_116 (l : Launch) (w : Wd) (hfl : l.stackTraces = false) (F d : Nat) (r : Hp) (this : Nat) (x1 : Int32) (k_this : nd_Kd this = 5) (h : Hp) (hf : fX6_ranged_116 F d this x1 h = some r) : nd_V l w yX6_ranged cX6_ranged 4 none 2 45 (.inl none, r) h 116 [(0, vr (some this)), (1, vi x1)] [] := by
  unfold fX6_ranged_116 at hf
  refine nd_iconst (v := 0) dX6_ranged_116 (by decide) ?_
  exact nd_loc [0, 1] rfl (tX6_ranged_117 l w hfl F d r _ _ _ k_this _ hf)
set_option maxHeartbeats 4000000 in
theorem tX6_ranged (l : Launch) (w : Wd) (hfl : l.stackTraces = false) (F d : Nat) {this : Nat} {p0 : Int32} {p1 : Int32} (k_this : nd_Kd this = 5) {h : Hp} {r : Hp} (hf : fX6_ranged F d this p0 p1 h = some r) : nd_C l w yX6_ranged cX6_ranged 4 none 2 45 [vr (some this), vi p0, vi p1] h (.inl none, r) := by
  refine nd_start (as := [vr (some this), vi p0, vi p1]) hfl (by decide) (Nat.le_of_ble_eq_true rfl) ?_
  unfold fX6_ranged at hf
  refine nd_eqL (L' := [(0, vr (some this)), (1, vi p0), (2, vi p1)]) rfl ?_
  refine nd_aload_n (j := 0) dX6_ranged_0 rfl rfl ?_
  refine nd_dup dX6_ranged_1 rfl ?_
  refine nd_getI (k := 3) dX6_ranged_2 k_this rfl (Nat.le_of_ble_eq_true rfl) (nd_flO q1343) rfl ?_
  refine nd_iconst (v := 1) dX6_ranged_5 (by decide) ?_
  refine nd_iadd dX6_ranged_6 ?_
  refine nd_putN (k := 3) dX6_ranged_7 k_this rfl (Nat.le_of_ble_eq_true rfl) (nd_flO q1343) rfl rfl rfl ?_
  replace hf := bnE hf
  obtain ⟨h1, e_h1, hf⟩ := hf
  refine nd_hp e_h1 ?_
  refine nd_aload_n (j := 0) dX6_ranged_10 rfl rfl ?_
  replace hf := caE hf
  obtain ⟨v3, h2, e_h2, hf⟩ := hf
  refine nd_Vi [] (tX6_numeral l w hfl F d k_this e_h2) rfl dX6_ranged_11 mw_X6_numeral (Or.inl q1581) k_this rfl q1583 qs41 (by omega) (by omega) (Nat.le_of_ble_eq_true rfl) ?_
  refine nd_if_ne (tgt := 18) dX6_ranged_14 (by decide) (fun c4 => ?_) (fun c4 => ?_)
  · replace hf := ifn c4 hf
    refine nd_aload_n (j := 0) dX6_ranged_18 rfl rfl ?_
    refine nd_getP (k := 12) dX6_ranged_19 k_this rfl (Nat.le_of_ble_eq_true rfl) (nd_flO q1352) rfl (fun ok5 => ?_)
    replace hf := nnE hf
    obtain ⟨a6, e_a6, hf⟩ := hf
    refine nd_topr e_a6.symm ?_
    have k_a6 : nd_Kd a6 = 20 := nd_c1 (ok5 a6 e_a6)
    refine nd_iload_n (j := 1) dX6_ranged_22 rfl rfl ?_
    refine nd_aload_n (j := 0) dX6_ranged_23 rfl rfl ?_
    refine nd_getI (k := 6) dX6_ranged_24 k_this rfl (Nat.le_of_ble_eq_true rfl) (nd_flO q1346) rfl ?_
    replace hf := ckE hf
    obtain ⟨c7, hf⟩ := hf
    refine nd_iast dX6_ranged_27 k_a6 c7 ?_
    replace hf := bnE hf
    obtain ⟨h8, e_h8, hf⟩ := hf
    refine nd_hp e_h8 ?_
    refine nd_aload_n (j := 0) dX6_ranged_28 rfl rfl ?_
    refine nd_bipush (v := 44) dX6_ranged_29 (by decide) ?_
    replace hf := caE hf
    obtain ⟨v10, h9, e_h9, hf⟩ := hf
    refine nd_Vi [] (tX6_need l w hfl F d k_this e_h9) rfl dX6_ranged_31 mw_X6_need (Or.inl q1549) k_this rfl q1551 qs33 (by omega) (by omega) (Nat.le_of_ble_eq_true rfl) ?_
    refine nd_if_eq (tgt := 44) dX6_ranged_34 (by decide) (fun c11 => ?_) (fun c11 => ?_)
    · replace hf := ifp c11 hf
      cases hf
      exact nd_vret dX6_ranged_44
    · replace hf := ifn c11 hf
      refine nd_aload_n (j := 0) dX6_ranged_37 rfl rfl ?_
      replace hf := caE hf
      obtain ⟨v13, h12, e_h12, hf⟩ := hf
      refine nd_Vi [] (tX6_numeral l w hfl F d k_this e_h12) rfl dX6_ranged_38 mw_X6_numeral (Or.inl q1581) k_this rfl q1583 qs41 (by omega) (by omega) (Nat.le_of_ble_eq_true rfl) ?_
      refine nd_if_ne (tgt := 45) dX6_ranged_41 (by decide) (fun c14 => ?_) (fun c14 => ?_)
      · replace hf := ifn c14 hf
        refine nd_aload_n (j := 0) dX6_ranged_45 rfl rfl ?_
        refine nd_getP (k := 13) dX6_ranged_46 k_this rfl (Nat.le_of_ble_eq_true rfl) (nd_flO q1353) rfl (fun ok15 => ?_)
        replace hf := nnE hf
        obtain ⟨a16, e_a16, hf⟩ := hf
        refine nd_topr e_a16.symm ?_
        have k_a16 : nd_Kd a16 = 20 := nd_c1 (ok15 a16 e_a16)
        refine nd_iload_n (j := 1) dX6_ranged_49 rfl rfl ?_
        refine nd_aload_n (j := 0) dX6_ranged_50 rfl rfl ?_
        refine nd_getI (k := 6) dX6_ranged_51 k_this rfl (Nat.le_of_ble_eq_true rfl) (nd_flO q1346) rfl ?_
        replace hf := ckE hf
        obtain ⟨c17, hf⟩ := hf
        refine nd_iast dX6_ranged_54 k_a16 c17 ?_
        replace hf := bnE hf
        obtain ⟨h18, e_h18, hf⟩ := hf
        refine nd_hp e_h18 ?_
        refine nd_aload_n (j := 0) dX6_ranged_55 rfl rfl ?_
        refine nd_getP (k := 18) dX6_ranged_56 k_this rfl (Nat.le_of_ble_eq_true rfl) (nd_flO q1358) rfl (fun ok19 => ?_)
        replace hf := nnE hf
        obtain ⟨a20, e_a20, hf⟩ := hf
        refine nd_topr e_a20.symm ?_
        have k_a20 : nd_Kd a20 = 22 := nd_c1 (ok19 a20 e_a20)
        refine nd_iload_n (j := 1) dX6_ranged_59 rfl rfl ?_
        refine nd_iconst (v := 1) dX6_ranged_60 (by decide) ?_
        replace hf := ckE hf
        obtain ⟨c21, hf⟩ := hf
        refine nd_zast dX6_ranged_61 k_a20 c21 (by decide) ?_
        replace hf := bnE hf
        obtain ⟨h22, e_h22, hf⟩ := hf
        refine nd_hp e_h22 ?_
        refine nd_iload_n (j := 2) dX6_ranged_62 rfl rfl ?_
        refine nd_if_eq (tgt := 92) dX6_ranged_63 (by decide) (fun c23 => ?_) (fun c23 => ?_)
        · replace hf := ifp c23 hf
          refine nd_aload_n (j := 0) dX6_ranged_92 rfl rfl ?_
          refine nd_getP (k := 12) dX6_ranged_93 k_this rfl (Nat.le_of_ble_eq_true rfl) (nd_flO q1352) rfl (fun ok24 => ?_)
          replace hf := nnE hf
          obtain ⟨a25, e_a25, hf⟩ := hf
          refine nd_topr e_a25.symm ?_
          have k_a25 : nd_Kd a25 = 20 := nd_c1 (ok24 a25 e_a25)
          refine nd_iload_n (j := 1) dX6_ranged_96 rfl rfl ?_
          replace hf := ckE hf
          obtain ⟨c26, hf⟩ := hf
          refine nd_iald dX6_ranged_97 k_a25 c26 ?_
          refine nd_if_lt (tgt := 116) dX6_ranged_98 (by decide) (fun c27 => ?_) (fun c27 => ?_)
          · replace hf := ifp c27 hf
            exact nd_loc [0, 1] rfl (tX6_ranged_116 l w hfl F d r _ _ k_this _ hf)
          · replace hf := ifn c27 hf
            refine nd_aload_n (j := 0) dX6_ranged_101 rfl rfl ?_
            refine nd_getP (k := 13) dX6_ranged_102 k_this rfl (Nat.le_of_ble_eq_true rfl) (nd_flO q1353) rfl (fun ok28 => ?_)
            replace hf := nnE hf
            obtain ⟨a29, e_a29, hf⟩ := hf
            refine nd_topr e_a29.symm ?_
            have k_a29 : nd_Kd a29 = 20 := nd_c1 (ok28 a29 e_a29)
            refine nd_iload_n (j := 1) dX6_ranged_105 rfl rfl ?_
            replace hf := ckE hf
            obtain ⟨c30, hf⟩ := hf
            refine nd_iald dX6_ranged_106 k_a29 c30 ?_
            refine nd_bipush (v := 20) dX6_ranged_107 (by decide) ?_
            refine nd_icmp_gt (tgt := 116) dX6_ranged_109 (by decide) (fun c31 => ?_) (fun c31 => ?_)
            · replace hf := ifp c31 hf
              exact nd_loc [0, 1] rfl (tX6_ranged_116 l w hfl F d r _ _ k_this _ hf)
            · replace hf := ifn c31 hf
              refine nd_iconst (v := 1) dX6_ranged_112 (by decide) ?_
              refine nd_goto (tgt := 117) dX6_ranged_113 (by decide) ?_
              exact nd_loc [0, 1] rfl (tX6_ranged_117 l w hfl F d r _ _ _ k_this _ hf)
        · replace hf := ifn c23 hf
          refine nd_aload_n (j := 0) dX6_ranged_66 rfl rfl ?_
          refine nd_getP (k := 13) dX6_ranged_67 k_this rfl (Nat.le_of_ble_eq_true rfl) (nd_flO q1353) rfl (fun ok32 => ?_)
          replace hf := nnE hf
          obtain ⟨a33, e_a33, hf⟩ := hf
          refine nd_topr e_a33.symm ?_
          have k_a33 : nd_Kd a33 = 20 := nd_c1 (ok32 a33 e_a33)
          refine nd_iload_n (j := 1) dX6_ranged_70 rfl rfl ?_
          replace hf := ckE hf
          obtain ⟨c34, hf⟩ := hf
          refine nd_iald dX6_ranged_71 k_a33 c34 ?_
          refine nd_aload_n (j := 0) dX6_ranged_72 rfl rfl ?_
          refine nd_getP (k := 12) dX6_ranged_73 k_this rfl (Nat.le_of_ble_eq_true rfl) (nd_flO q1352) rfl (fun ok35 => ?_)
          replace hf := nnE hf
          obtain ⟨a36, e_a36, hf⟩ := hf
          refine nd_topr e_a36.symm ?_
          have k_a36 : nd_Kd a36 = 20 := nd_c1 (ok35 a36 e_a36)
          refine nd_iload_n (j := 1) dX6_ranged_76 rfl rfl ?_
          replace hf := ckE hf
          obtain ⟨c37, hf⟩ := hf
          refine nd_iald dX6_ranged_77 k_a36 c37 ?_
          refine nd_isub dX6_ranged_78 ?_
          refine nd_ldc (v := 65536) dX6_ranged_79 q1585 ?_
          refine nd_icmp_ge (tgt := 88) dX6_ranged_81 (by decide) (fun c38 => ?_) (fun c38 => ?_)
          · replace hf := ifp c38 hf
            refine nd_iconst (v := 0) dX6_ranged_88 (by decide) ?_
            refine nd_goto (tgt := 117) dX6_ranged_89 (by decide) ?_
            exact nd_loc [0, 1] rfl (tX6_ranged_117 l w hfl F d r _ _ _ k_this _ hf)
          · replace hf := ifn c38 hf
            refine nd_iconst (v := 1) dX6_ranged_84 (by decide) ?_
            refine nd_goto (tgt := 117) dX6_ranged_85 (by decide) ?_
            exact nd_loc [0, 1] rfl (tX6_ranged_117 l w hfl F d r _ _ _ k_this _ hf)
      · replace hf := ifp c14 hf
        cases hf
        exact nd_vret dX6_ranged_44
  · replace hf := ifp c4 hf
    cases hf
    exact nd_vret dX6_ranged_17
def fX6_begin_198 (F d : Nat) (this : Nat) (x3 : Int32) (h : Hp) : Option (Int32 × Hp) :=
  ca (fX6_push F d this x3 h) fun v2 h1 => (
  some (v2, h1))
def fX6_begin_172 (F d : Nat) (this : Nat) (x2 : Int32) (x3 : Int32) (h : Hp) : Option (Int32 × Hp) :=
  ca (fX6_need F d this 123 h) fun v2 h1 => (
  if v2 = 0 then
  (some ((-1), h1))
  else
  (if x2 = 9 then
  (fX6_begin_198 F d this x3 h1)
  else
  (ca (fX6_look F d this h1) fun v6 h5 => (
  if v6 = 125 then
  (bn (sI h5 603 this ((gI h5 603 this) + 1)) fun h8 => (
  some (x3, h8)))
  else
  (fX6_begin_198 F d this x3 h5)))))
def fX6_begin_250 (F d : Nat) (this : Nat) (x2 : Int32) (x3 : Int32) (h : Hp) : Option (Int32 × Hp) :=
  if (gI h 604 this) ≤ 0 then
  (if x2 = 7 then
  (ca (fX6_push F d this x3 h) fun v4 h3 => (
  some (v4, h3)))
  else
  (some (x3, h)))
  else
  (some ((-1), h))
def fX6_begin_247 (F d : Nat) (this : Nat) (x2 : Int32) (x3 : Int32) (s0 : Nat) (s1 : Int32) (s2 : Int32) (h : Hp) : Option (Int32 × Hp) :=
  cv (fX6_ranged F d s0 s1 s2 h) fun h1 => (
  fX6_begin_250 F d this x2 x3 h1)
def fX6_begin_110 (F d : Nat) (this : Nat) (s0 : Int32) (h : Hp) : Option (Int32 × Hp) :=
  if s0 = 0 then
  (ca (fX6_stop F d this 1 (gI h 603 this) h) fun v17 h16 => (
  some (v17, h16)))
  else
  (if (gI h 605 this) < 6 then
  (bn (sI h 603 this ((gI h 603 this) + 1)) fun h3 => (
  ca (fX6_add F d this s0 h3) fun v5 h4 => (
  if s0 = 6 then
  (fX6_begin_172 F d this s0 v5 h4)
  else
  (if s0 = 9 then
  (fX6_begin_172 F d this s0 v5 h4)
  else
  (if s0 = 1 then
  (fX6_begin_250 F d this s0 v5 h4)
  else
  (if s0 = 5 then
  (fX6_begin_250 F d this s0 v5 h4)
  else
  (ca (fX6_look F d this h4) fun v11 h10 => (
  if v11 = 40 then
  (if s0 = 2 then
  (fX6_begin_247 F d this s0 v5 this v5 1 h10)
  else
  (fX6_begin_247 F d this s0 v5 this v5 0 h10))
  else
  (fX6_begin_250 F d this s0 v5 h10)))))))))
  else
  (ca (fX6_stop F d this 5 (gI h 603 this) h) fun v15 h14 => (
  some (v15, h14))))
def fX6_begin (F d : Nat) (this : Nat) (h : Hp) : Option (Int32 × Hp) :=
  ca (fX6_look F d this h) fun v2 h1 => (
  if v2 = 91 then
  (ca (fX6_tagged F d this h1) fun v17 h16 => (
  some (v17, h16)))
  else
  (ca (fX6_in F d v2 65 90 h1) fun v5 h4 => (
  if v5 = 0 then
  (if v2 = 98 then
  (fX6_begin_110 F d this 1 h4)
  else
  (if v2 = 105 then
  (fX6_begin_110 F d this 2 h4)
  else
  (if v2 = 111 then
  (fX6_begin_110 F d this 4 h4)
  else
  (if v2 = 110 then
  (fX6_begin_110 F d this 5 h4)
  else
  (if v2 = 113 then
  (fX6_begin_110 F d this 6 h4)
  else
  (if v2 = 108 then
  (fX6_begin_110 F d this 7 h4)
  else
  (if v2 = 99 then
  (fX6_begin_110 F d this 9 h4)
  else
  (fX6_begin_110 F d this 0 h4))))))))
  else
  (ca (fX6_named F d this (v2 - 65) h4) fun v15 h14 => (
  some (v15, h14))))))
theorem mw_X6_begin : nd_MW yX6_begin cX6_begin 4 (some .int) 0 := ⟨q1560, q91, by decide, by decide, by decide +kernel⟩
set_option maxHeartbeats 4000000 in
theorem tX6_begin_198 (l : Launch) (w : Wd) (hfl : l.stackTraces = false) (F d : Nat) (r : Int32 × Hp) (this : Nat) (x3 : Int32) (k_this : nd_Kd this = 5) (h : Hp) (hf : fX6_begin_198 F d this x3 h = some r) : nd_V l w yX6_begin cX6_begin 4 (some .int) 3 68 (.inl (some (vi r.1)), r.2) h 198 [(0, vr (some this)), (3, vi x3)] [] := by
  unfold fX6_begin_198 at hf
  refine nd_aload_n (j := 0) dX6_begin_198 rfl rfl ?_
  refine nd_iload_n (j := 1) dX6_begin_199 rfl rfl ?_
  replace hf := caE hf
  obtain ⟨v2, h1, e_h1, hf⟩ := hf
  refine nd_Vi [] (tX6_push l w hfl F d k_this e_h1) rfl dX6_begin_200 mw_X6_push (Or.inl q1569) k_this rfl q1571 qs38 (by omega) (by omega) (Nat.le_of_ble_eq_true rfl) ?_
  cases hf
  exact nd_iret (v := v2) dX6_begin_203
set_option maxHeartbeats 4000000 in
theorem tX6_begin_172 (l : Launch) (w : Wd) (hfl : l.stackTraces = false) (F d : Nat) (r : Int32 × Hp) (this : Nat) (x2 : Int32) (x3 : Int32) (k_this : nd_Kd this = 5) (h : Hp) (hf : fX6_begin_172 F d this x2 x3 h = some r) : nd_V l w yX6_begin cX6_begin 4 (some .int) 3 68 (.inl (some (vi r.1)), r.2) h 172 [(0, vr (some this)), (2, vi x2), (3, vi x3)] [] := by
  unfold fX6_begin_172 at hf
  refine nd_aload_n (j := 0) dX6_begin_172 rfl rfl ?_
  refine nd_bipush (v := 123) dX6_begin_173 (by decide) ?_
  replace hf := caE hf
  obtain ⟨v2, h1, e_h1, hf⟩ := hf
  refine nd_Vi [] (tX6_need l w hfl F d k_this e_h1) rfl dX6_begin_175 mw_X6_need (Or.inl q1549) k_this rfl q1551 qs33 (by omega) (by omega) (Nat.le_of_ble_eq_true rfl) ?_
  refine nd_if_ne (tgt := 183) dX6_begin_178 (by decide) (fun c3 => ?_) (fun c3 => ?_)
  · replace hf := ifn c3 hf
    refine nd_iload_n (j := 1) dX6_begin_183 rfl rfl ?_
    refine nd_bipush (v := 9) dX6_begin_184 (by decide) ?_
    refine nd_icmp_eq (tgt := 198) dX6_begin_186 (by decide) (fun c4 => ?_) (fun c4 => ?_)
    · replace hf := ifp c4 hf
      exact nd_loc [0, 2] rfl (tX6_begin_198 l w hfl F d r _ _ k_this _ hf)
    · replace hf := ifn c4 hf
      refine nd_aload_n (j := 0) dX6_begin_189 rfl rfl ?_
      replace hf := caE hf
      obtain ⟨v6, h5, e_h5, hf⟩ := hf
      refine nd_Vi [] (tX6_look l w hfl F d k_this e_h5) rfl dX6_begin_190 mw_X6_look (Or.inl q1538) k_this rfl q1540 qs31 (by omega) (by omega) (Nat.le_of_ble_eq_true rfl) ?_
      refine nd_bipush (v := 125) dX6_begin_193 (by decide) ?_
      refine nd_icmp_eq (tgt := 204) dX6_begin_195 (by decide) (fun c7 => ?_) (fun c7 => ?_)
      · replace hf := ifp c7 hf
        refine nd_aload_n (j := 0) dX6_begin_204 rfl rfl ?_
        refine nd_dup dX6_begin_205 rfl ?_
        refine nd_getI (k := 3) dX6_begin_206 k_this rfl (Nat.le_of_ble_eq_true rfl) (nd_flO q1343) rfl ?_
        refine nd_iconst (v := 1) dX6_begin_209 (by decide) ?_
        refine nd_iadd dX6_begin_210 ?_
        refine nd_putN (k := 3) dX6_begin_211 k_this rfl (Nat.le_of_ble_eq_true rfl) (nd_flO q1343) rfl rfl rfl ?_
        replace hf := bnE hf
        obtain ⟨h8, e_h8, hf⟩ := hf
        refine nd_hp e_h8 ?_
        refine nd_iload_n (j := 2) dX6_begin_214 rfl rfl ?_
        cases hf
        exact nd_iret (v := x3) dX6_begin_215
      · replace hf := ifn c7 hf
        exact nd_loc [0, 2] rfl (tX6_begin_198 l w hfl F d r _ _ k_this _ hf)
  · replace hf := ifp c3 hf
    refine nd_iconst (v := (-1)) dX6_begin_181 (by decide) ?_
    cases hf
    exact nd_iret (v := (-1)) dX6_begin_182
set_option maxHeartbeats 4000000 in
theorem tX6_begin_250 (l : Launch) (w : Wd) (hfl : l.stackTraces = false) (F d : Nat) (r : Int32 × Hp) (this : Nat) (x2 : Int32) (x3 : Int32) (k_this : nd_Kd this = 5) (h : Hp) (hf : fX6_begin_250 F d this x2 x3 h = some r) : nd_V l w yX6_begin cX6_begin 4 (some .int) 3 68 (.inl (some (vi r.1)), r.2) h 250 [(0, vr (some this)), (2, vi x2), (3, vi x3)] [] := by
  unfold fX6_begin_250 at hf
  refine nd_aload_n (j := 0) dX6_begin_250 rfl rfl ?_
  refine nd_getI (k := 4) dX6_begin_251 k_this rfl (Nat.le_of_ble_eq_true rfl) (nd_flO q1344) rfl ?_
  refine nd_if_le (tgt := 261) dX6_begin_254 (by decide) (fun c1 => ?_) (fun c1 => ?_)
  · replace hf := ifp c1 hf
    refine nd_iload_n (j := 1) dX6_begin_261 rfl rfl ?_
    refine nd_bipush (v := 7) dX6_begin_262 (by decide) ?_
    refine nd_icmp_ne (tgt := 275) dX6_begin_264 (by decide) (fun c2 => ?_) (fun c2 => ?_)
    · replace hf := ifn c2 hf
      refine nd_iload_n (j := 2) dX6_begin_275 rfl rfl ?_
      cases hf
      exact nd_iret (v := x3) dX6_begin_276
    · replace hf := ifp c2 hf
      refine nd_aload_n (j := 0) dX6_begin_267 rfl rfl ?_
      refine nd_iload_n (j := 2) dX6_begin_268 rfl rfl ?_
      replace hf := caE hf
      obtain ⟨v4, h3, e_h3, hf⟩ := hf
      refine nd_Vi [] (tX6_push l w hfl F d k_this e_h3) rfl dX6_begin_269 mw_X6_push (Or.inl q1569) k_this rfl q1571 qs38 (by omega) (by omega) (Nat.le_of_ble_eq_true rfl) ?_
      refine nd_goto (tgt := 276) dX6_begin_272 (by decide) ?_
      cases hf
      exact nd_iret (v := v4) dX6_begin_276
  · replace hf := ifn c1 hf
    refine nd_iconst (v := (-1)) dX6_begin_257 (by decide) ?_
    refine nd_goto (tgt := 276) dX6_begin_258 (by decide) ?_
    cases hf
    exact nd_iret (v := (-1)) dX6_begin_276
set_option maxHeartbeats 4000000 in
theorem tX6_begin_247 (l : Launch) (w : Wd) (hfl : l.stackTraces = false) (F d : Nat) (r : Int32 × Hp) (this : Nat) (x2 : Int32) (x3 : Int32) (s0 : Nat) (s1 : Int32) (s2 : Int32) (k_this : nd_Kd this = 5) (k_s0 : nd_Kd s0 = 5) (h : Hp) (hf : fX6_begin_247 F d this x2 x3 s0 s1 s2 h = some r) : nd_V l w yX6_begin cX6_begin 4 (some .int) 3 68 (.inl (some (vi r.1)), r.2) h 247 [(0, vr (some this)), (2, vi x2), (3, vi x3)] [vi s2, vi s1, vr (some s0)] := by
  unfold fX6_begin_247 at hf
  replace hf := cvE hf
  obtain ⟨h1, e_h1, hf⟩ := hf
  refine nd_Vv [] (tX6_ranged l w hfl F d k_s0 e_h1) rfl dX6_begin_247 mw_X6_ranged (Or.inl q1577) k_s0 rfl q1579 qs40 (by omega) (by omega) (Nat.le_of_ble_eq_true rfl) ?_
  exact nd_loc [0, 1, 2] rfl (tX6_begin_250 l w hfl F d r _ _ _ k_this _ hf)
set_option maxHeartbeats 4000000 in
theorem tX6_begin_110 (l : Launch) (w : Wd) (hfl : l.stackTraces = false) (F d : Nat) (r : Int32 × Hp) (this : Nat) (s0 : Int32) (k_this : nd_Kd this = 5) (h : Hp) (hf : fX6_begin_110 F d this s0 h = some r) : nd_V l w yX6_begin cX6_begin 4 (some .int) 3 68 (.inl (some (vi r.1)), r.2) h 110 [(0, vr (some this))] [vi s0] := by
  unfold fX6_begin_110 at hf
  refine nd_istore_n [(2, vi s0), (0, vr (some this))] dX6_begin_110 rfl (Nat.le_of_ble_eq_true rfl) rfl ?_
  refine nd_iload_n (j := 0) dX6_begin_111 rfl rfl ?_
  refine nd_if_ne (tgt := 125) dX6_begin_112 (by decide) (fun c1 => ?_) (fun c1 => ?_)
  · replace hf := ifn c1 hf
    refine nd_aload_n (j := 1) dX6_begin_125 rfl rfl ?_
    refine nd_getI (k := 5) dX6_begin_126 k_this rfl (Nat.le_of_ble_eq_true rfl) (nd_flO q1345) rfl ?_
    refine nd_bipush (v := 6) dX6_begin_129 (by decide) ?_
    refine nd_icmp_lt (tgt := 144) dX6_begin_131 (by decide) (fun c2 => ?_) (fun c2 => ?_)
    · replace hf := ifp c2 hf
      refine nd_aload_n (j := 1) dX6_begin_144 rfl rfl ?_
      refine nd_dup dX6_begin_145 rfl ?_
      refine nd_getI (k := 3) dX6_begin_146 k_this rfl (Nat.le_of_ble_eq_true rfl) (nd_flO q1343) rfl ?_
      refine nd_iconst (v := 1) dX6_begin_149 (by decide) ?_
      refine nd_iadd dX6_begin_150 ?_
      refine nd_putN (k := 3) dX6_begin_151 k_this rfl (Nat.le_of_ble_eq_true rfl) (nd_flO q1343) rfl rfl rfl ?_
      replace hf := bnE hf
      obtain ⟨h3, e_h3, hf⟩ := hf
      refine nd_hp e_h3 ?_
      refine nd_aload_n (j := 1) dX6_begin_154 rfl rfl ?_
      refine nd_iload_n (j := 0) dX6_begin_155 rfl rfl ?_
      replace hf := caE hf
      obtain ⟨v5, h4, e_h4, hf⟩ := hf
      refine nd_Vi [] (tX6_add l w hfl F d k_this e_h4) rfl dX6_begin_156 mw_X6_add (Or.inl q1565) k_this rfl q1567 qs37 (by omega) (by omega) (Nat.le_of_ble_eq_true rfl) ?_
      refine nd_istore_n [(3, vi v5), (2, vi s0), (0, vr (some this))] dX6_begin_159 rfl (Nat.le_of_ble_eq_true rfl) rfl ?_
      refine nd_iload_n (j := 1) dX6_begin_160 rfl rfl ?_
      refine nd_bipush (v := 6) dX6_begin_161 (by decide) ?_
      refine nd_icmp_eq (tgt := 172) dX6_begin_163 (by decide) (fun c6 => ?_) (fun c6 => ?_)
      · replace hf := ifp c6 hf
        exact nd_loc [2, 1, 0] rfl (tX6_begin_172 l w hfl F d r _ _ _ k_this _ hf)
      · replace hf := ifn c6 hf
        refine nd_iload_n (j := 1) dX6_begin_166 rfl rfl ?_
        refine nd_bipush (v := 9) dX6_begin_167 (by decide) ?_
        refine nd_icmp_ne (tgt := 216) dX6_begin_169 (by decide) (fun c7 => ?_) (fun c7 => ?_)
        · replace hf := ifn c7 hf
          refine nd_iload_n (j := 1) dX6_begin_216 rfl rfl ?_
          refine nd_iconst (v := 1) dX6_begin_217 (by decide) ?_
          refine nd_icmp_eq (tgt := 250) dX6_begin_218 (by decide) (fun c8 => ?_) (fun c8 => ?_)
          · replace hf := ifp c8 hf
            exact nd_loc [2, 1, 0] rfl (tX6_begin_250 l w hfl F d r _ _ _ k_this _ hf)
          · replace hf := ifn c8 hf
            refine nd_iload_n (j := 1) dX6_begin_221 rfl rfl ?_
            refine nd_iconst (v := 5) dX6_begin_222 (by decide) ?_
            refine nd_icmp_eq (tgt := 250) dX6_begin_223 (by decide) (fun c9 => ?_) (fun c9 => ?_)
            · replace hf := ifp c9 hf
              exact nd_loc [2, 1, 0] rfl (tX6_begin_250 l w hfl F d r _ _ _ k_this _ hf)
            · replace hf := ifn c9 hf
              refine nd_aload_n (j := 2) dX6_begin_226 rfl rfl ?_
              replace hf := caE hf
              obtain ⟨v11, h10, e_h10, hf⟩ := hf
              refine nd_Vi [] (tX6_look l w hfl F d k_this e_h10) rfl dX6_begin_227 mw_X6_look (Or.inl q1538) k_this rfl q1540 qs31 (by omega) (by omega) (Nat.le_of_ble_eq_true rfl) ?_
              refine nd_bipush (v := 40) dX6_begin_230 (by decide) ?_
              refine nd_icmp_ne (tgt := 250) dX6_begin_232 (by decide) (fun c12 => ?_) (fun c12 => ?_)
              · replace hf := ifn c12 hf
                exact nd_loc [2, 1, 0] rfl (tX6_begin_250 l w hfl F d r _ _ _ k_this _ hf)
              · replace hf := ifp c12 hf
                refine nd_aload_n (j := 2) dX6_begin_235 rfl rfl ?_
                refine nd_iload_n (j := 0) dX6_begin_236 rfl rfl ?_
                refine nd_iload_n (j := 1) dX6_begin_237 rfl rfl ?_
                refine nd_iconst (v := 2) dX6_begin_238 (by decide) ?_
                refine nd_icmp_ne (tgt := 246) dX6_begin_239 (by decide) (fun c13 => ?_) (fun c13 => ?_)
                · replace hf := ifn c13 hf
                  refine nd_iconst (v := 0) dX6_begin_246 (by decide) ?_
                  exact nd_loc [2, 1, 0] rfl (tX6_begin_247 l w hfl F d r _ _ _ _ _ _ k_this k_this _ hf)
                · replace hf := ifp c13 hf
                  refine nd_iconst (v := 1) dX6_begin_242 (by decide) ?_
                  refine nd_goto (tgt := 247) dX6_begin_243 (by decide) ?_
                  exact nd_loc [2, 1, 0] rfl (tX6_begin_247 l w hfl F d r _ _ _ _ _ _ k_this k_this _ hf)
        · replace hf := ifp c7 hf
          exact nd_loc [2, 1, 0] rfl (tX6_begin_172 l w hfl F d r _ _ _ k_this _ hf)
    · replace hf := ifn c2 hf
      refine nd_aload_n (j := 1) dX6_begin_134 rfl rfl ?_
      refine nd_iconst (v := 5) dX6_begin_135 (by decide) ?_
      refine nd_aload_n (j := 1) dX6_begin_136 rfl rfl ?_
      refine nd_getI (k := 3) dX6_begin_137 k_this rfl (Nat.le_of_ble_eq_true rfl) (nd_flO q1343) rfl ?_
      replace hf := caE hf
      obtain ⟨v15, h14, e_h14, hf⟩ := hf
      refine nd_Vi [] (tX6_stop l w hfl F d k_this e_h14) rfl dX6_begin_140 mw_X6_stop (Or.inl q1545) k_this rfl q1547 qs32 (by omega) (by omega) (Nat.le_of_ble_eq_true rfl) ?_
      cases hf
      exact nd_iret (v := v15) dX6_begin_143
  · replace hf := ifp c1 hf
    refine nd_aload_n (j := 1) dX6_begin_115 rfl rfl ?_
    refine nd_iconst (v := 1) dX6_begin_116 (by decide) ?_
    refine nd_aload_n (j := 1) dX6_begin_117 rfl rfl ?_
    refine nd_getI (k := 3) dX6_begin_118 k_this rfl (Nat.le_of_ble_eq_true rfl) (nd_flO q1343) rfl ?_
    replace hf := caE hf
    obtain ⟨v17, h16, e_h16, hf⟩ := hf
    refine nd_Vi [] (tX6_stop l w hfl F d k_this e_h16) rfl dX6_begin_121 mw_X6_stop (Or.inl q1545) k_this rfl q1547 qs32 (by omega) (by omega) (Nat.le_of_ble_eq_true rfl) ?_
    cases hf
    exact nd_iret (v := v17) dX6_begin_124
set_option maxHeartbeats 4000000 in
theorem tX6_begin (l : Launch) (w : Wd) (hfl : l.stackTraces = false) (F d : Nat) {this : Nat} (k_this : nd_Kd this = 5) {h : Hp} {r : Int32 × Hp} (hf : fX6_begin F d this h = some r) : nd_C l w yX6_begin cX6_begin 4 (some .int) 3 68 [vr (some this)] h (.inl (some (vi r.1)), r.2) := by
  refine nd_start (as := [vr (some this)]) hfl (by decide) (Nat.le_of_ble_eq_true rfl) ?_
  unfold fX6_begin at hf
  refine nd_eqL (L' := [(0, vr (some this))]) rfl ?_
  refine nd_aload_n (j := 0) dX6_begin_0 rfl rfl ?_
  replace hf := caE hf
  obtain ⟨v2, h1, e_h1, hf⟩ := hf
  refine nd_Vi [] (tX6_look l w hfl F d k_this e_h1) rfl dX6_begin_1 mw_X6_look (Or.inl q1538) k_this rfl q1540 qs31 (by omega) (by omega) (Nat.le_of_ble_eq_true rfl) ?_
  refine nd_istore_n [(1, vi v2), (0, vr (some this))] dX6_begin_4 rfl (Nat.le_of_ble_eq_true rfl) rfl ?_
  refine nd_iload_n (j := 0) dX6_begin_5 rfl rfl ?_
  refine nd_bipush (v := 91) dX6_begin_6 (by decide) ?_
  refine nd_icmp_ne (tgt := 16) dX6_begin_8 (by decide) (fun c3 => ?_) (fun c3 => ?_)
  · replace hf := ifn c3 hf
    refine nd_iload_n (j := 0) dX6_begin_16 rfl rfl ?_
    refine nd_bipush (v := 65) dX6_begin_17 (by decide) ?_
    refine nd_bipush (v := 90) dX6_begin_19 (by decide) ?_
    replace hf := caE hf
    obtain ⟨v5, h4, e_h4, hf⟩ := hf
    refine nd_Si [] (tX6_in l w hfl F d e_h4) rfl dX6_begin_21 mw_X6_in (Or.inl q1542) q1543 (by omega) (by omega) (Nat.le_of_ble_eq_true rfl) ?_
    refine nd_if_eq (tgt := 36) dX6_begin_24 (by decide) (fun c6 => ?_) (fun c6 => ?_)
    · replace hf := ifp c6 hf
      refine nd_iload_n (j := 0) dX6_begin_36 rfl rfl ?_
      refine nd_bipush (v := 98) dX6_begin_37 (by decide) ?_
      refine nd_icmp_ne (tgt := 46) dX6_begin_39 (by decide) (fun c7 => ?_) (fun c7 => ?_)
      · replace hf := ifn c7 hf
        refine nd_iload_n (j := 0) dX6_begin_46 rfl rfl ?_
        refine nd_bipush (v := 105) dX6_begin_47 (by decide) ?_
        refine nd_icmp_ne (tgt := 56) dX6_begin_49 (by decide) (fun c8 => ?_) (fun c8 => ?_)
        · replace hf := ifn c8 hf
          refine nd_iload_n (j := 0) dX6_begin_56 rfl rfl ?_
          refine nd_bipush (v := 111) dX6_begin_57 (by decide) ?_
          refine nd_icmp_ne (tgt := 66) dX6_begin_59 (by decide) (fun c9 => ?_) (fun c9 => ?_)
          · replace hf := ifn c9 hf
            refine nd_iload_n (j := 0) dX6_begin_66 rfl rfl ?_
            refine nd_bipush (v := 110) dX6_begin_67 (by decide) ?_
            refine nd_icmp_ne (tgt := 76) dX6_begin_69 (by decide) (fun c10 => ?_) (fun c10 => ?_)
            · replace hf := ifn c10 hf
              refine nd_iload_n (j := 0) dX6_begin_76 rfl rfl ?_
              refine nd_bipush (v := 113) dX6_begin_77 (by decide) ?_
              refine nd_icmp_ne (tgt := 87) dX6_begin_79 (by decide) (fun c11 => ?_) (fun c11 => ?_)
              · replace hf := ifn c11 hf
                refine nd_iload_n (j := 0) dX6_begin_87 rfl rfl ?_
                refine nd_bipush (v := 108) dX6_begin_88 (by decide) ?_
                refine nd_icmp_ne (tgt := 98) dX6_begin_90 (by decide) (fun c12 => ?_) (fun c12 => ?_)
                · replace hf := ifn c12 hf
                  refine nd_iload_n (j := 0) dX6_begin_98 rfl rfl ?_
                  refine nd_bipush (v := 99) dX6_begin_99 (by decide) ?_
                  refine nd_icmp_ne (tgt := 109) dX6_begin_101 (by decide) (fun c13 => ?_) (fun c13 => ?_)
                  · replace hf := ifn c13 hf
                    refine nd_iconst (v := 0) dX6_begin_109 (by decide) ?_
                    exact nd_loc [1] rfl (tX6_begin_110 l w hfl F d r _ _ k_this _ hf)
                  · replace hf := ifp c13 hf
                    refine nd_bipush (v := 9) dX6_begin_104 (by decide) ?_
                    refine nd_goto (tgt := 110) dX6_begin_106 (by decide) ?_
                    exact nd_loc [1] rfl (tX6_begin_110 l w hfl F d r _ _ k_this _ hf)
                · replace hf := ifp c12 hf
                  refine nd_bipush (v := 7) dX6_begin_93 (by decide) ?_
                  refine nd_goto (tgt := 110) dX6_begin_95 (by decide) ?_
                  exact nd_loc [1] rfl (tX6_begin_110 l w hfl F d r _ _ k_this _ hf)
              · replace hf := ifp c11 hf
                refine nd_bipush (v := 6) dX6_begin_82 (by decide) ?_
                refine nd_goto (tgt := 110) dX6_begin_84 (by decide) ?_
                exact nd_loc [1] rfl (tX6_begin_110 l w hfl F d r _ _ k_this _ hf)
            · replace hf := ifp c10 hf
              refine nd_iconst (v := 5) dX6_begin_72 (by decide) ?_
              refine nd_goto (tgt := 110) dX6_begin_73 (by decide) ?_
              exact nd_loc [1] rfl (tX6_begin_110 l w hfl F d r _ _ k_this _ hf)
          · replace hf := ifp c9 hf
            refine nd_iconst (v := 4) dX6_begin_62 (by decide) ?_
            refine nd_goto (tgt := 110) dX6_begin_63 (by decide) ?_
            exact nd_loc [1] rfl (tX6_begin_110 l w hfl F d r _ _ k_this _ hf)
        · replace hf := ifp c8 hf
          refine nd_iconst (v := 2) dX6_begin_52 (by decide) ?_
          refine nd_goto (tgt := 110) dX6_begin_53 (by decide) ?_
          exact nd_loc [1] rfl (tX6_begin_110 l w hfl F d r _ _ k_this _ hf)
      · replace hf := ifp c7 hf
        refine nd_iconst (v := 1) dX6_begin_42 (by decide) ?_
        refine nd_goto (tgt := 110) dX6_begin_43 (by decide) ?_
        exact nd_loc [1] rfl (tX6_begin_110 l w hfl F d r _ _ k_this _ hf)
    · replace hf := ifn c6 hf
      refine nd_aload_n (j := 1) dX6_begin_27 rfl rfl ?_
      refine nd_iload_n (j := 0) dX6_begin_28 rfl rfl ?_
      refine nd_bipush (v := 65) dX6_begin_29 (by decide) ?_
      refine nd_isub dX6_begin_31 ?_
      replace hf := caE hf
      obtain ⟨v15, h14, e_h14, hf⟩ := hf
      refine nd_Vi [] (tX6_named l w hfl F d k_this e_h14) rfl dX6_begin_32 mw_X6_named (Or.inl q1573) k_this rfl q1575 qs39 (by omega) (by omega) (Nat.le_of_ble_eq_true rfl) ?_
      cases hf
      exact nd_iret (v := v15) dX6_begin_35
  · replace hf := ifp c3 hf
    refine nd_aload_n (j := 1) dX6_begin_11 rfl rfl ?_
    replace hf := caE hf
    obtain ⟨v17, h16, e_h16, hf⟩ := hf
    refine nd_Vi [] (tX6_tagged l w hfl F d k_this e_h16) rfl dX6_begin_12 mw_X6_tagged (Or.inl q1561) k_this rfl q1563 qs36 (by omega) (by omega) (Nat.le_of_ble_eq_true rfl) ?_
    cases hf
    exact nd_iret (v := v17) dX6_begin_15
def fX6_unwrap_225 (F d : Nat) (k_102 : Nat → Int32 → Int32 → Hp → Option (Hp)) (this : Nat) (x2 : Int32) (x3 : Int32) (h : Hp) : Option (Hp) :=
  k_102 this x2 x3 h
def fX6_unwrap_200 (F d : Nat) (k_102 : Nat → Int32 → Int32 → Hp → Option (Hp)) (this : Nat) (x2 : Int32) (x3 : Int32) (x4 : Int32) (h : Hp) : Option (Hp) :=
  nn (gP h 625 this) fun a2 => (
  ck (inb (gI h 624 this) (nd_Ln a2)) (
  bn (sA h a2 (Int32.toNatClampNeg (gI h 624 this)) (160 + x4)) fun h4 => (
  bn (sI h4 624 this ((gI h4 624 this) + 1)) fun h5 => (
  fX6_unwrap_225 F d k_102 this x2 x3 h5))))
def fX6_unwrap_193 (F d : Nat) (k_102 : Nat → Int32 → Int32 → Hp → Option (Hp)) (this : Nat) (x2 : Int32) (x3 : Int32) (x4 : Int32) (s0 : Nat) (s1 : Int32) (s2 : Int32) (h : Hp) : Option (Hp) :=
  ck (inb s1 (nd_Ln s0)) (
  bn (sA h s0 (Int32.toNatClampNeg s1) (s2 + x4)) fun h2 => (
  fX6_unwrap_225 F d k_102 this x2 x3 h2))
def fX6_unwrap_146 (F d : Nat) (k_102 : Nat → Int32 → Int32 → Hp → Option (Hp)) (this : Nat) (x2 : Int32) (x3 : Int32) (x4 : Int32) (s0 : Int32) (h : Hp) : Option (Hp) :=
  nn (gP h 619 this) fun a2 => (
  nn (gP h 626 this) fun a4 => (
  ck (inb x2 (nd_Ln a4)) (
  ck (inb (gA h a4 (Int32.toNatClampNeg x2)) (nd_Ln a2)) (
  if (gA h a2 (Int32.toNatClampNeg (gA h a4 (Int32.toNatClampNeg x2)))) = 0 then
  (fX6_unwrap_200 F d k_102 this x2 x3 x4 h)
  else
  (if (gI h 624 this) ≤ 0 then
  (fX6_unwrap_200 F d k_102 this x2 x3 x4 h)
  else
  (nn (gP h 625 this) fun a10 => (
  if s0 = 0 then
  (fX6_unwrap_193 F d k_102 this x2 x3 x4 a10 ((gI h 624 this) - 1) 128 h)
  else
  (fX6_unwrap_193 F d k_102 this x2 x3 x4 a10 ((gI h 624 this) - 1) 160 h))))))))
def fX6_unwrap_141 (F d : Nat) (k_102 : Nat → Int32 → Int32 → Hp → Option (Hp)) (this : Nat) (x2 : Int32) (x3 : Int32) (x4 : Int32) (h : Hp) : Option (Hp) :=
  fX6_unwrap_146 F d k_102 this x2 x3 x4 1 h
def fX6_unwrap_102 (F d : Nat) : Nat → Nat → Int32 → Int32 → Hp → Option (Hp)
  | 0, _, _, _, _ => none
  | n + 1, this, x2, x3, h =>
    if x2 ≤ 0 then
    (some h)
    else
    (bn (x2 + (-1)) fun v2 => (
    nn (gP h 614 this) fun a4 => (
    nn (gP h 626 this) fun a6 => (
    ck (inb v2 (nd_Ln a6)) (
    ck (inb (gA h a6 (Int32.toNatClampNeg v2)) (nd_Ln a4)) (
    bn (gA h a4 (Int32.toNatClampNeg (gA h a6 (Int32.toNatClampNeg v2)))) fun v9 => (
    if 1 < (gI h 624 this) then
    (fX6_unwrap_141 F d (fX6_unwrap_102 F d n) this v2 x3 v9 h)
    else
    (ca (fX6_in F d x3 6 9 h) fun v12 h11 => (
    if v12 = 0 then
    (fX6_unwrap_146 F d (fX6_unwrap_102 F d n) this v2 x3 v9 0 h11)
    else
    (fX6_unwrap_141 F d (fX6_unwrap_102 F d n) this v2 x3 v9 h11))))))))))
def fX6_unwrap_101 (F d : Nat) (this : Nat) (x2 : Int32) (x3 : Int32) (s0 : Nat) (s1 : Int32) (s2 : Int32) (h : Hp) : Option (Hp) :=
  ck (inb s1 (nd_Ln s0)) (
  bn (sA h s0 (Int32.toNatClampNeg s1) s2) fun h2 => (
  fX6_unwrap_102 F d F this x2 x3 h2))
def fX6_unwrap_95 (F d : Nat) (this : Nat) (x2 : Int32) (x3 : Int32) (s0 : Nat) (s1 : Int32) (h : Hp) : Option (Hp) :=
  fX6_unwrap_101 F d this x2 x3 s0 s1 48 h
def fX6_unwrap_75 (F d : Nat) (this : Nat) (x2 : Int32) (x3 : Int32) (s0 : Nat) (s1 : Int32) (h : Hp) : Option (Hp) :=
  bn (sI h 624 s0 s1) fun h1 => (
  nn (gP h1 625 this) fun a3 => (
  if x3 = 6 then
  (fX6_unwrap_95 F d this x2 x3 a3 0 h1)
  else
  (if x3 = 7 then
  (fX6_unwrap_95 F d this x2 x3 a3 0 h1)
  else
  (fX6_unwrap_101 F d this x2 x3 a3 0 x3 h1))))
def fX6_unwrap_7 (F d : Nat) : Nat → Nat → Int32 → Hp → Option (Hp)
  | 0, _, _, _ => none
  | n + 1, this, x2, h =>
    nn (gP h 611 this) fun a2 => (
    ck (inb (gI h 623 this) (nd_Ln a2)) (
    if (gA h a2 (Int32.toNatClampNeg (gI h 623 this))) = 10 then
    (nn (gP h 626 this) fun a11 => (
    ck (inb x2 (nd_Ln a11)) (
    bn (sA h a11 (Int32.toNatClampNeg x2) (gI h 623 this)) fun h13 => (
    bn (x2 + 1) fun v14 => (
    nn (gP h13 620 this) fun a16 => (
    ck (inb (6 * (gI h13 623 this)) (nd_Ln a16)) (
    bn (sI h13 623 this (gA h13 a16 (Int32.toNatClampNeg (6 * (gI h13 623 this))))) fun h18 => (
    fX6_unwrap_7 F d n this v14 h18))))))))
    else
    (nn (gP h 611 this) fun a6 => (
    ck (inb (gI h 623 this) (nd_Ln a6)) (
    bn (gA h a6 (Int32.toNatClampNeg (gI h 623 this))) fun v8 => (
    if v8 = 9 then
    (fX6_unwrap_75 F d this x2 v8 this 0 h)
    else
    (fX6_unwrap_75 F d this x2 v8 this 1 h)))))))
def fX6_unwrap (F d : Nat) (this : Nat) (p0 : Int32) (h : Hp) : Option (Hp) :=
  bn (sI h 623 this p0) fun h1 => (
  fX6_unwrap_7 F d F this 0 h1)
theorem mw_X6_unwrap : nd_MW yX6_unwrap cX6_unwrap 6 none 1 := ⟨q1597, q91, by decide, by decide, by decide +kernel⟩
set_option maxHeartbeats 4000000 in
theorem tX6_unwrap_225 (l : Launch) (w : Wd) (hfl : l.stackTraces = false) (F d : Nat) (r : Hp) (k_102 : Nat → Int32 → Int32 → Hp → Option (Hp)) (hk_102 : ∀ (this : Nat) (x2 : Int32) (x3 : Int32) (k_this : nd_Kd this = 5) (h : Hp), k_102 this x2 x3 h = some r → nd_V l w yX6_unwrap cX6_unwrap 6 none 1 22 (.inl none, r) h 102 [(0, vr (some this)), (2, vi x2), (3, vi x3)] []) (this : Nat) (x2 : Int32) (x3 : Int32) (k_this : nd_Kd this = 5) (h : Hp) (hf : fX6_unwrap_225 F d k_102 this x2 x3 h = some r) : nd_V l w yX6_unwrap cX6_unwrap 6 none 1 22 (.inl none, r) h 225 [(0, vr (some this)), (2, vi x2), (3, vi x3)] [] := by
  unfold fX6_unwrap_225 at hf
  refine nd_goto (tgt := 102) dX6_unwrap_225 (by decide) ?_
  exact nd_loc [0, 1, 2] rfl (hk_102 _ _ _ k_this _ hf)
set_option maxHeartbeats 4000000 in
theorem tX6_unwrap_200 (l : Launch) (w : Wd) (hfl : l.stackTraces = false) (F d : Nat) (r : Hp) (k_102 : Nat → Int32 → Int32 → Hp → Option (Hp)) (hk_102 : ∀ (this : Nat) (x2 : Int32) (x3 : Int32) (k_this : nd_Kd this = 5) (h : Hp), k_102 this x2 x3 h = some r → nd_V l w yX6_unwrap cX6_unwrap 6 none 1 22 (.inl none, r) h 102 [(0, vr (some this)), (2, vi x2), (3, vi x3)] []) (this : Nat) (x2 : Int32) (x3 : Int32) (x4 : Int32) (k_this : nd_Kd this = 5) (h : Hp) (hf : fX6_unwrap_200 F d k_102 this x2 x3 x4 h = some r) : nd_V l w yX6_unwrap cX6_unwrap 6 none 1 22 (.inl none, r) h 200 [(0, vr (some this)), (2, vi x2), (3, vi x3), (4, vi x4)] [] := by
  unfold fX6_unwrap_200 at hf
  refine nd_aload_n (j := 0) dX6_unwrap_200 rfl rfl ?_
  refine nd_getP (k := 25) dX6_unwrap_201 k_this rfl (Nat.le_of_ble_eq_true rfl) (nd_flO q1365) rfl (fun ok1 => ?_)
  replace hf := nnE hf
  obtain ⟨a2, e_a2, hf⟩ := hf
  refine nd_topr e_a2.symm ?_
  have k_a2 : nd_Kd a2 = 20 := nd_c1 (ok1 a2 e_a2)
  refine nd_aload_n (j := 0) dX6_unwrap_204 rfl rfl ?_
  refine nd_getI (k := 24) dX6_unwrap_205 k_this rfl (Nat.le_of_ble_eq_true rfl) (nd_flO q1364) rfl ?_
  refine nd_sipush (v := 160) dX6_unwrap_208 (by decide) ?_
  refine nd_iload (j := 3) dX6_unwrap_211 rfl ?_
  refine nd_iadd dX6_unwrap_213 ?_
  replace hf := ckE hf
  obtain ⟨c3, hf⟩ := hf
  refine nd_iast dX6_unwrap_214 k_a2 c3 ?_
  replace hf := bnE hf
  obtain ⟨h4, e_h4, hf⟩ := hf
  refine nd_hp e_h4 ?_
  refine nd_aload_n (j := 0) dX6_unwrap_215 rfl rfl ?_
  refine nd_dup dX6_unwrap_216 rfl ?_
  refine nd_getI (k := 24) dX6_unwrap_217 k_this rfl (Nat.le_of_ble_eq_true rfl) (nd_flO q1364) rfl ?_
  refine nd_iconst (v := 1) dX6_unwrap_220 (by decide) ?_
  refine nd_iadd dX6_unwrap_221 ?_
  refine nd_putN (k := 24) dX6_unwrap_222 k_this rfl (Nat.le_of_ble_eq_true rfl) (nd_flO q1364) rfl rfl rfl ?_
  replace hf := bnE hf
  obtain ⟨h5, e_h5, hf⟩ := hf
  refine nd_hp e_h5 ?_
  exact nd_loc [0, 1, 2] rfl (tX6_unwrap_225 l w hfl F d r k_102 hk_102 _ _ _ k_this _ hf)
set_option maxHeartbeats 4000000 in
theorem tX6_unwrap_193 (l : Launch) (w : Wd) (hfl : l.stackTraces = false) (F d : Nat) (r : Hp) (k_102 : Nat → Int32 → Int32 → Hp → Option (Hp)) (hk_102 : ∀ (this : Nat) (x2 : Int32) (x3 : Int32) (k_this : nd_Kd this = 5) (h : Hp), k_102 this x2 x3 h = some r → nd_V l w yX6_unwrap cX6_unwrap 6 none 1 22 (.inl none, r) h 102 [(0, vr (some this)), (2, vi x2), (3, vi x3)] []) (this : Nat) (x2 : Int32) (x3 : Int32) (x4 : Int32) (s0 : Nat) (s1 : Int32) (s2 : Int32) (k_this : nd_Kd this = 5) (k_s0 : nd_Kd s0 = 20) (h : Hp) (hf : fX6_unwrap_193 F d k_102 this x2 x3 x4 s0 s1 s2 h = some r) : nd_V l w yX6_unwrap cX6_unwrap 6 none 1 22 (.inl none, r) h 193 [(0, vr (some this)), (2, vi x2), (3, vi x3), (4, vi x4)] [vi s2, vi s1, vr (some s0)] := by
  unfold fX6_unwrap_193 at hf
  refine nd_iload (j := 3) dX6_unwrap_193 rfl ?_
  refine nd_iadd dX6_unwrap_195 ?_
  replace hf := ckE hf
  obtain ⟨c1, hf⟩ := hf
  refine nd_iast dX6_unwrap_196 k_s0 c1 ?_
  replace hf := bnE hf
  obtain ⟨h2, e_h2, hf⟩ := hf
  refine nd_hp e_h2 ?_
  refine nd_goto (tgt := 225) dX6_unwrap_197 (by decide) ?_
  exact nd_loc [0, 1, 2] rfl (tX6_unwrap_225 l w hfl F d r k_102 hk_102 _ _ _ k_this _ hf)
set_option maxHeartbeats 4000000 in
theorem tX6_unwrap_146 (l : Launch) (w : Wd) (hfl : l.stackTraces = false) (F d : Nat) (r : Hp) (k_102 : Nat → Int32 → Int32 → Hp → Option (Hp)) (hk_102 : ∀ (this : Nat) (x2 : Int32) (x3 : Int32) (k_this : nd_Kd this = 5) (h : Hp), k_102 this x2 x3 h = some r → nd_V l w yX6_unwrap cX6_unwrap 6 none 1 22 (.inl none, r) h 102 [(0, vr (some this)), (2, vi x2), (3, vi x3)] []) (this : Nat) (x2 : Int32) (x3 : Int32) (x4 : Int32) (s0 : Int32) (k_this : nd_Kd this = 5) (h : Hp) (hf : fX6_unwrap_146 F d k_102 this x2 x3 x4 s0 h = some r) : nd_V l w yX6_unwrap cX6_unwrap 6 none 1 22 (.inl none, r) h 146 [(0, vr (some this)), (2, vi x2), (3, vi x3), (4, vi x4)] [vi s0] := by
  unfold fX6_unwrap_146 at hf
  refine nd_istore [(5, vi s0), (0, vr (some this)), (2, vi x2), (3, vi x3), (4, vi x4)] dX6_unwrap_146 (Nat.le_of_ble_eq_true rfl) rfl ?_
  refine nd_aload_n (j := 1) dX6_unwrap_148 rfl rfl ?_
  refine nd_getP (k := 19) dX6_unwrap_149 k_this rfl (Nat.le_of_ble_eq_true rfl) (nd_flO q1359) rfl (fun ok1 => ?_)
  replace hf := nnE hf
  obtain ⟨a2, e_a2, hf⟩ := hf
  refine nd_topr e_a2.symm ?_
  have k_a2 : nd_Kd a2 = 22 := nd_c1 (ok1 a2 e_a2)
  refine nd_aload_n (j := 1) dX6_unwrap_152 rfl rfl ?_
  refine nd_getP (k := 26) dX6_unwrap_153 k_this rfl (Nat.le_of_ble_eq_true rfl) (nd_flO q1366) rfl (fun ok3 => ?_)
  replace hf := nnE hf
  obtain ⟨a4, e_a4, hf⟩ := hf
  refine nd_topr e_a4.symm ?_
  have k_a4 : nd_Kd a4 = 20 := nd_c1 (ok3 a4 e_a4)
  refine nd_iload_n (j := 2) dX6_unwrap_156 rfl rfl ?_
  replace hf := ckE hf
  obtain ⟨c5, hf⟩ := hf
  refine nd_iald dX6_unwrap_157 k_a4 c5 ?_
  replace hf := ckE hf
  obtain ⟨c6, hf⟩ := hf
  refine nd_zald dX6_unwrap_158 k_a2 c6 ?_
  refine nd_if_eq (tgt := 200) dX6_unwrap_159 (by decide) (fun c7 => ?_) (fun c7 => ?_)
  · replace hf := ifp c7 hf
    exact nd_loc [1, 2, 3, 4] rfl (tX6_unwrap_200 l w hfl F d r k_102 hk_102 _ _ _ _ k_this _ hf)
  · replace hf := ifn c7 hf
    refine nd_aload_n (j := 1) dX6_unwrap_162 rfl rfl ?_
    refine nd_getI (k := 24) dX6_unwrap_163 k_this rfl (Nat.le_of_ble_eq_true rfl) (nd_flO q1364) rfl ?_
    refine nd_if_le (tgt := 200) dX6_unwrap_166 (by decide) (fun c8 => ?_) (fun c8 => ?_)
    · replace hf := ifp c8 hf
      exact nd_loc [1, 2, 3, 4] rfl (tX6_unwrap_200 l w hfl F d r k_102 hk_102 _ _ _ _ k_this _ hf)
    · replace hf := ifn c8 hf
      refine nd_aload_n (j := 1) dX6_unwrap_169 rfl rfl ?_
      refine nd_getP (k := 25) dX6_unwrap_170 k_this rfl (Nat.le_of_ble_eq_true rfl) (nd_flO q1365) rfl (fun ok9 => ?_)
      replace hf := nnE hf
      obtain ⟨a10, e_a10, hf⟩ := hf
      refine nd_topr e_a10.symm ?_
      have k_a10 : nd_Kd a10 = 20 := nd_c1 (ok9 a10 e_a10)
      refine nd_aload_n (j := 1) dX6_unwrap_173 rfl rfl ?_
      refine nd_getI (k := 24) dX6_unwrap_174 k_this rfl (Nat.le_of_ble_eq_true rfl) (nd_flO q1364) rfl ?_
      refine nd_iconst (v := 1) dX6_unwrap_177 (by decide) ?_
      refine nd_isub dX6_unwrap_178 ?_
      refine nd_iload (j := 0) dX6_unwrap_179 rfl ?_
      refine nd_if_eq (tgt := 190) dX6_unwrap_181 (by decide) (fun c11 => ?_) (fun c11 => ?_)
      · replace hf := ifp c11 hf
        refine nd_sipush (v := 128) dX6_unwrap_190 (by decide) ?_
        exact nd_loc [1, 2, 3, 4] rfl (tX6_unwrap_193 l w hfl F d r k_102 hk_102 _ _ _ _ _ _ _ k_this k_a10 _ hf)
      · replace hf := ifn c11 hf
        refine nd_sipush (v := 160) dX6_unwrap_184 (by decide) ?_
        refine nd_goto (tgt := 193) dX6_unwrap_187 (by decide) ?_
        exact nd_loc [1, 2, 3, 4] rfl (tX6_unwrap_193 l w hfl F d r k_102 hk_102 _ _ _ _ _ _ _ k_this k_a10 _ hf)
set_option maxHeartbeats 4000000 in
theorem tX6_unwrap_141 (l : Launch) (w : Wd) (hfl : l.stackTraces = false) (F d : Nat) (r : Hp) (k_102 : Nat → Int32 → Int32 → Hp → Option (Hp)) (hk_102 : ∀ (this : Nat) (x2 : Int32) (x3 : Int32) (k_this : nd_Kd this = 5) (h : Hp), k_102 this x2 x3 h = some r → nd_V l w yX6_unwrap cX6_unwrap 6 none 1 22 (.inl none, r) h 102 [(0, vr (some this)), (2, vi x2), (3, vi x3)] []) (this : Nat) (x2 : Int32) (x3 : Int32) (x4 : Int32) (k_this : nd_Kd this = 5) (h : Hp) (hf : fX6_unwrap_141 F d k_102 this x2 x3 x4 h = some r) : nd_V l w yX6_unwrap cX6_unwrap 6 none 1 22 (.inl none, r) h 141 [(0, vr (some this)), (2, vi x2), (3, vi x3), (4, vi x4)] [] := by
  unfold fX6_unwrap_141 at hf
  refine nd_iconst (v := 1) dX6_unwrap_141 (by decide) ?_
  refine nd_goto (tgt := 146) dX6_unwrap_142 (by decide) ?_
  exact nd_loc [0, 1, 2, 3] rfl (tX6_unwrap_146 l w hfl F d r k_102 hk_102 _ _ _ _ _ k_this _ hf)
set_option maxHeartbeats 4000000 in
theorem tX6_unwrap_102 (l : Launch) (w : Wd) (hfl : l.stackTraces = false) (F d : Nat) (r : Hp) : ∀ (n : Nat) (this : Nat) (x2 : Int32) (x3 : Int32) (k_this : nd_Kd this = 5) (h : Hp), fX6_unwrap_102 F d n this x2 x3 h = some r → nd_V l w yX6_unwrap cX6_unwrap 6 none 1 22 (.inl none, r) h 102 [(0, vr (some this)), (2, vi x2), (3, vi x3)] [] := by
  intro n
  induction n with
  | zero => intro _ _ _ _ _ hf; cases hf
  | succ n ih =>
    intro this x2 x3 k_this h hf
    unfold fX6_unwrap_102 at hf
    refine nd_iload_n (j := 1) dX6_unwrap_102 rfl rfl ?_
    refine nd_if_le (tgt := 228) dX6_unwrap_103 (by decide) (fun c1 => ?_) (fun c1 => ?_)
    · replace hf := ifp c1 hf
      cases hf
      exact nd_vret dX6_unwrap_228
    · replace hf := ifn c1 hf
      replace hf := bnE hf
      obtain ⟨v2, e_v2, hf⟩ := hf
      refine nd_iinc (v := v2) (j := 1) [(2, vi v2), (0, vr (some this)), (3, vi x3)] dX6_unwrap_106 rfl (by rw [e_v2]; rfl) (Nat.le_of_ble_eq_true rfl) rfl ?_
      refine nd_aload_n (j := 1) dX6_unwrap_109 rfl rfl ?_
      refine nd_getP (k := 14) dX6_unwrap_110 k_this rfl (Nat.le_of_ble_eq_true rfl) (nd_flO q1354) rfl (fun ok3 => ?_)
      replace hf := nnE hf
      obtain ⟨a4, e_a4, hf⟩ := hf
      refine nd_topr e_a4.symm ?_
      have k_a4 : nd_Kd a4 = 20 := nd_c1 (ok3 a4 e_a4)
      refine nd_aload_n (j := 1) dX6_unwrap_113 rfl rfl ?_
      refine nd_getP (k := 26) dX6_unwrap_114 k_this rfl (Nat.le_of_ble_eq_true rfl) (nd_flO q1366) rfl (fun ok5 => ?_)
      replace hf := nnE hf
      obtain ⟨a6, e_a6, hf⟩ := hf
      refine nd_topr e_a6.symm ?_
      have k_a6 : nd_Kd a6 = 20 := nd_c1 (ok5 a6 e_a6)
      refine nd_iload_n (j := 0) dX6_unwrap_117 rfl rfl ?_
      replace hf := ckE hf
      obtain ⟨c7, hf⟩ := hf
      refine nd_iald dX6_unwrap_118 k_a6 c7 ?_
      replace hf := ckE hf
      obtain ⟨c8, hf⟩ := hf
      refine nd_iald dX6_unwrap_119 k_a4 c8 ?_
      replace hf := bnE hf
      obtain ⟨v9, e_v9, hf⟩ := hf
      refine nd_top e_v9 ?_
      refine nd_istore [(4, vi v9), (2, vi v2), (0, vr (some this)), (3, vi x3)] dX6_unwrap_120 (Nat.le_of_ble_eq_true rfl) rfl ?_
      refine nd_aload_n (j := 2) dX6_unwrap_122 rfl rfl ?_
      refine nd_getI (k := 24) dX6_unwrap_123 k_this rfl (Nat.le_of_ble_eq_true rfl) (nd_flO q1364) rfl ?_
      refine nd_iconst (v := 1) dX6_unwrap_126 (by decide) ?_
      refine nd_icmp_gt (tgt := 141) dX6_unwrap_127 (by decide) (fun c10 => ?_) (fun c10 => ?_)
      · replace hf := ifp c10 hf
        exact nd_loc [2, 1, 3, 0] rfl (tX6_unwrap_141 l w hfl F d r (fX6_unwrap_102 F d n) ih _ _ _ _ k_this _ hf)
      · replace hf := ifn c10 hf
        refine nd_iload_n (j := 3) dX6_unwrap_130 rfl rfl ?_
        refine nd_bipush (v := 6) dX6_unwrap_131 (by decide) ?_
        refine nd_bipush (v := 9) dX6_unwrap_133 (by decide) ?_
        replace hf := caE hf
        obtain ⟨v12, h11, e_h11, hf⟩ := hf
        refine nd_Si [] (tX6_in l w hfl F d e_h11) rfl dX6_unwrap_135 mw_X6_in (Or.inl q1542) q1543 (by omega) (by omega) (Nat.le_of_ble_eq_true rfl) ?_
        refine nd_if_eq (tgt := 145) dX6_unwrap_138 (by decide) (fun c13 => ?_) (fun c13 => ?_)
        · replace hf := ifp c13 hf
          refine nd_iconst (v := 0) dX6_unwrap_145 (by decide) ?_
          exact nd_loc [2, 1, 3, 0] rfl (tX6_unwrap_146 l w hfl F d r (fX6_unwrap_102 F d n) ih _ _ _ _ _ k_this _ hf)
        · replace hf := ifn c13 hf
          exact nd_loc [2, 1, 3, 0] rfl (tX6_unwrap_141 l w hfl F d r (fX6_unwrap_102 F d n) ih _ _ _ _ k_this _ hf)
set_option maxHeartbeats 4000000 in
theorem tX6_unwrap_101 (l : Launch) (w : Wd) (hfl : l.stackTraces = false) (F d : Nat) (r : Hp) (this : Nat) (x2 : Int32) (x3 : Int32) (s0 : Nat) (s1 : Int32) (s2 : Int32) (k_this : nd_Kd this = 5) (k_s0 : nd_Kd s0 = 20) (h : Hp) (hf : fX6_unwrap_101 F d this x2 x3 s0 s1 s2 h = some r) : nd_V l w yX6_unwrap cX6_unwrap 6 none 1 22 (.inl none, r) h 101 [(0, vr (some this)), (2, vi x2), (3, vi x3)] [vi s2, vi s1, vr (some s0)] := by
  unfold fX6_unwrap_101 at hf
  replace hf := ckE hf
  obtain ⟨c1, hf⟩ := hf
  refine nd_iast dX6_unwrap_101 k_s0 c1 ?_
  replace hf := bnE hf
  obtain ⟨h2, e_h2, hf⟩ := hf
  refine nd_hp e_h2 ?_
  exact nd_loc [0, 1, 2] rfl (tX6_unwrap_102 l w hfl F d r F _ _ _ k_this _ hf)
set_option maxHeartbeats 4000000 in
theorem tX6_unwrap_95 (l : Launch) (w : Wd) (hfl : l.stackTraces = false) (F d : Nat) (r : Hp) (this : Nat) (x2 : Int32) (x3 : Int32) (s0 : Nat) (s1 : Int32) (k_this : nd_Kd this = 5) (k_s0 : nd_Kd s0 = 20) (h : Hp) (hf : fX6_unwrap_95 F d this x2 x3 s0 s1 h = some r) : nd_V l w yX6_unwrap cX6_unwrap 6 none 1 22 (.inl none, r) h 95 [(0, vr (some this)), (2, vi x2), (3, vi x3)] [vi s1, vr (some s0)] := by
  unfold fX6_unwrap_95 at hf
  refine nd_bipush (v := 48) dX6_unwrap_95 (by decide) ?_
  refine nd_goto (tgt := 101) dX6_unwrap_97 (by decide) ?_
  exact nd_loc [0, 1, 2] rfl (tX6_unwrap_101 l w hfl F d r _ _ _ _ _ _ k_this k_s0 _ hf)
set_option maxHeartbeats 4000000 in
theorem tX6_unwrap_75 (l : Launch) (w : Wd) (hfl : l.stackTraces = false) (F d : Nat) (r : Hp) (this : Nat) (x2 : Int32) (x3 : Int32) (s0 : Nat) (s1 : Int32) (k_this : nd_Kd this = 5) (k_s0 : nd_Kd s0 = 5) (h : Hp) (hf : fX6_unwrap_75 F d this x2 x3 s0 s1 h = some r) : nd_V l w yX6_unwrap cX6_unwrap 6 none 1 22 (.inl none, r) h 75 [(0, vr (some this)), (2, vi x2), (3, vi x3)] [vi s1, vr (some s0)] := by
  unfold fX6_unwrap_75 at hf
  refine nd_putN (k := 24) dX6_unwrap_75 k_s0 rfl (Nat.le_of_ble_eq_true rfl) (nd_flO q1364) rfl rfl rfl ?_
  replace hf := bnE hf
  obtain ⟨h1, e_h1, hf⟩ := hf
  refine nd_hp e_h1 ?_
  refine nd_aload_n (j := 0) dX6_unwrap_78 rfl rfl ?_
  refine nd_getP (k := 25) dX6_unwrap_79 k_this rfl (Nat.le_of_ble_eq_true rfl) (nd_flO q1365) rfl (fun ok2 => ?_)
  replace hf := nnE hf
  obtain ⟨a3, e_a3, hf⟩ := hf
  refine nd_topr e_a3.symm ?_
  have k_a3 : nd_Kd a3 = 20 := nd_c1 (ok2 a3 e_a3)
  refine nd_iconst (v := 0) dX6_unwrap_82 (by decide) ?_
  refine nd_iload_n (j := 2) dX6_unwrap_83 rfl rfl ?_
  refine nd_bipush (v := 6) dX6_unwrap_84 (by decide) ?_
  refine nd_icmp_eq (tgt := 95) dX6_unwrap_86 (by decide) (fun c4 => ?_) (fun c4 => ?_)
  · replace hf := ifp c4 hf
    exact nd_loc [0, 1, 2] rfl (tX6_unwrap_95 l w hfl F d r _ _ _ _ _ k_this k_a3 _ hf)
  · replace hf := ifn c4 hf
    refine nd_iload_n (j := 2) dX6_unwrap_89 rfl rfl ?_
    refine nd_bipush (v := 7) dX6_unwrap_90 (by decide) ?_
    refine nd_icmp_ne (tgt := 100) dX6_unwrap_92 (by decide) (fun c5 => ?_) (fun c5 => ?_)
    · replace hf := ifn c5 hf
      refine nd_iload_n (j := 2) dX6_unwrap_100 rfl rfl ?_
      exact nd_loc [0, 1, 2] rfl (tX6_unwrap_101 l w hfl F d r _ _ _ _ _ _ k_this k_a3 _ hf)
    · replace hf := ifp c5 hf
      exact nd_loc [0, 1, 2] rfl (tX6_unwrap_95 l w hfl F d r _ _ _ _ _ k_this k_a3 _ hf)
set_option maxHeartbeats 4000000 in
theorem tX6_unwrap_7 (l : Launch) (w : Wd) (hfl : l.stackTraces = false) (F d : Nat) (r : Hp) : ∀ (n : Nat) (this : Nat) (x2 : Int32) (k_this : nd_Kd this = 5) (h : Hp), fX6_unwrap_7 F d n this x2 h = some r → nd_V l w yX6_unwrap cX6_unwrap 6 none 1 22 (.inl none, r) h 7 [(0, vr (some this)), (2, vi x2)] [] := by
  intro n
  induction n with
  | zero => intro _ _ _ _ hf; cases hf
  | succ n ih =>
    intro this x2 k_this h hf
    unfold fX6_unwrap_7 at hf
    refine nd_aload_n (j := 0) dX6_unwrap_7 rfl rfl ?_
    refine nd_getP (k := 11) dX6_unwrap_8 k_this rfl (Nat.le_of_ble_eq_true rfl) (nd_flO q1351) rfl (fun ok1 => ?_)
    replace hf := nnE hf
    obtain ⟨a2, e_a2, hf⟩ := hf
    refine nd_topr e_a2.symm ?_
    have k_a2 : nd_Kd a2 = 20 := nd_c1 (ok1 a2 e_a2)
    refine nd_aload_n (j := 0) dX6_unwrap_11 rfl rfl ?_
    refine nd_getI (k := 23) dX6_unwrap_12 k_this rfl (Nat.le_of_ble_eq_true rfl) (nd_flO q1363) rfl ?_
    replace hf := ckE hf
    obtain ⟨c3, hf⟩ := hf
    refine nd_iald dX6_unwrap_15 k_a2 c3 ?_
    refine nd_bipush (v := 10) dX6_unwrap_16 (by decide) ?_
    refine nd_icmp_ne (tgt := 53) dX6_unwrap_18 (by decide) (fun c4 => ?_) (fun c4 => ?_)
    · replace hf := ifn c4 hf
      refine nd_aload_n (j := 0) dX6_unwrap_53 rfl rfl ?_
      refine nd_getP (k := 11) dX6_unwrap_54 k_this rfl (Nat.le_of_ble_eq_true rfl) (nd_flO q1351) rfl (fun ok5 => ?_)
      replace hf := nnE hf
      obtain ⟨a6, e_a6, hf⟩ := hf
      refine nd_topr e_a6.symm ?_
      have k_a6 : nd_Kd a6 = 20 := nd_c1 (ok5 a6 e_a6)
      refine nd_aload_n (j := 0) dX6_unwrap_57 rfl rfl ?_
      refine nd_getI (k := 23) dX6_unwrap_58 k_this rfl (Nat.le_of_ble_eq_true rfl) (nd_flO q1363) rfl ?_
      replace hf := ckE hf
      obtain ⟨c7, hf⟩ := hf
      refine nd_iald dX6_unwrap_61 k_a6 c7 ?_
      replace hf := bnE hf
      obtain ⟨v8, e_v8, hf⟩ := hf
      refine nd_top e_v8 ?_
      refine nd_istore_n [(3, vi v8), (0, vr (some this)), (2, vi x2)] dX6_unwrap_62 rfl (Nat.le_of_ble_eq_true rfl) rfl ?_
      refine nd_aload_n (j := 1) dX6_unwrap_63 rfl rfl ?_
      refine nd_iload_n (j := 0) dX6_unwrap_64 rfl rfl ?_
      refine nd_bipush (v := 9) dX6_unwrap_65 (by decide) ?_
      refine nd_icmp_ne (tgt := 74) dX6_unwrap_67 (by decide) (fun c9 => ?_) (fun c9 => ?_)
      · replace hf := ifn c9 hf
        refine nd_iconst (v := 1) dX6_unwrap_74 (by decide) ?_
        exact nd_loc [1, 2, 0] rfl (tX6_unwrap_75 l w hfl F d r _ _ _ _ _ k_this k_this _ hf)
      · replace hf := ifp c9 hf
        refine nd_iconst (v := 0) dX6_unwrap_70 (by decide) ?_
        refine nd_goto (tgt := 75) dX6_unwrap_71 (by decide) ?_
        exact nd_loc [1, 2, 0] rfl (tX6_unwrap_75 l w hfl F d r _ _ _ _ _ k_this k_this _ hf)
    · replace hf := ifp c4 hf
      refine nd_aload_n (j := 0) dX6_unwrap_21 rfl rfl ?_
      refine nd_getP (k := 26) dX6_unwrap_22 k_this rfl (Nat.le_of_ble_eq_true rfl) (nd_flO q1366) rfl (fun ok10 => ?_)
      replace hf := nnE hf
      obtain ⟨a11, e_a11, hf⟩ := hf
      refine nd_topr e_a11.symm ?_
      have k_a11 : nd_Kd a11 = 20 := nd_c1 (ok10 a11 e_a11)
      refine nd_iload_n (j := 1) dX6_unwrap_25 rfl rfl ?_
      refine nd_aload_n (j := 0) dX6_unwrap_26 rfl rfl ?_
      refine nd_getI (k := 23) dX6_unwrap_27 k_this rfl (Nat.le_of_ble_eq_true rfl) (nd_flO q1363) rfl ?_
      replace hf := ckE hf
      obtain ⟨c12, hf⟩ := hf
      refine nd_iast dX6_unwrap_30 k_a11 c12 ?_
      replace hf := bnE hf
      obtain ⟨h13, e_h13, hf⟩ := hf
      refine nd_hp e_h13 ?_
      replace hf := bnE hf
      obtain ⟨v14, e_v14, hf⟩ := hf
      refine nd_iinc (v := v14) (j := 1) [(2, vi v14), (0, vr (some this))] dX6_unwrap_31 rfl (by rw [e_v14]; rfl) (Nat.le_of_ble_eq_true rfl) rfl ?_
      refine nd_aload_n (j := 1) dX6_unwrap_34 rfl rfl ?_
      refine nd_aload_n (j := 1) dX6_unwrap_35 rfl rfl ?_
      refine nd_getP (k := 20) dX6_unwrap_36 k_this rfl (Nat.le_of_ble_eq_true rfl) (nd_flO q1360) rfl (fun ok15 => ?_)
      replace hf := nnE hf
      obtain ⟨a16, e_a16, hf⟩ := hf
      refine nd_topr e_a16.symm ?_
      have k_a16 : nd_Kd a16 = 20 := nd_c1 (ok15 a16 e_a16)
      refine nd_bipush (v := 6) dX6_unwrap_39 (by decide) ?_
      refine nd_aload_n (j := 1) dX6_unwrap_41 rfl rfl ?_
      refine nd_getI (k := 23) dX6_unwrap_42 k_this rfl (Nat.le_of_ble_eq_true rfl) (nd_flO q1363) rfl ?_
      refine nd_imul dX6_unwrap_45 ?_
      replace hf := ckE hf
      obtain ⟨c17, hf⟩ := hf
      refine nd_iald dX6_unwrap_46 k_a16 c17 ?_
      refine nd_putN (k := 23) dX6_unwrap_47 k_this rfl (Nat.le_of_ble_eq_true rfl) (nd_flO q1363) rfl rfl rfl ?_
      replace hf := bnE hf
      obtain ⟨h18, e_h18, hf⟩ := hf
      refine nd_hp e_h18 ?_
      refine nd_goto (tgt := 7) dX6_unwrap_50 (by decide) ?_
      exact nd_loc [1, 0] rfl (ih _ _ k_this _ hf)
set_option maxHeartbeats 4000000 in
theorem tX6_unwrap (l : Launch) (w : Wd) (hfl : l.stackTraces = false) (F d : Nat) {this : Nat} {p0 : Int32} (k_this : nd_Kd this = 5) {h : Hp} {r : Hp} (hf : fX6_unwrap F d this p0 h = some r) : nd_C l w yX6_unwrap cX6_unwrap 6 none 1 22 [vr (some this), vi p0] h (.inl none, r) := by
  refine nd_start (as := [vr (some this), vi p0]) hfl (by decide) (Nat.le_of_ble_eq_true rfl) ?_
  unfold fX6_unwrap at hf
  refine nd_eqL (L' := [(0, vr (some this)), (1, vi p0)]) rfl ?_
  refine nd_iconst (v := 0) dX6_unwrap_0 (by decide) ?_
  refine nd_istore_n [(2, vi 0), (0, vr (some this)), (1, vi p0)] dX6_unwrap_1 rfl (Nat.le_of_ble_eq_true rfl) rfl ?_
  refine nd_aload_n (j := 1) dX6_unwrap_2 rfl rfl ?_
  refine nd_iload_n (j := 2) dX6_unwrap_3 rfl rfl ?_
  refine nd_putN (k := 23) dX6_unwrap_4 k_this rfl (Nat.le_of_ble_eq_true rfl) (nd_flO q1363) rfl rfl rfl ?_
  replace hf := bnE hf
  obtain ⟨h1, e_h1, hf⟩ := hf
  refine nd_hp e_h1 ?_
  exact nd_loc [1, 0] rfl (tX6_unwrap_7 l w hfl F d r F _ _ k_this _ hf)
def fX6_component_161 (F d : Nat) (this : Nat) (s0 : Int32) (h : Hp) : Option (Hp) :=
  if s0 = 0 then
  (ca (fX6_stop F d this 4 ((gI h 603 this) - 1) h) fun v3 h2 => (
  some h2))
  else
  (some h)
def fX6_component_160 (F d : Nat) (this : Nat) (h : Hp) : Option (Hp) :=
  fX6_component_161 F d this 0 h
def fX6_component_156 (F d : Nat) (this : Nat) (h : Hp) : Option (Hp) :=
  fX6_component_161 F d this 1 h
def fX6_component (F d : Nat) (this : Nat) (p0 : Int32) (p1 : Int32) (h : Hp) : Option (Hp) :=
  ca (fX6_look F d this h) fun v2 h1 => (
  if v2 = 63 then
  (nn (gP h1 621 this) fun a45 => (
  ck (inb p0 (nd_Ln a45)) (
  bn (sA h1 a45 (Int32.toNatClampNeg p0) 1) fun h47 => (
  bn (sI h47 603 this ((gI h47 603 this) + 1)) fun h48 => (
  some h48)))))
  else
  (ca (fX6_look F d this h1) fun v5 h4 => (
  if v5 = 61 then
  (nn (gP h4 621 this) fun a8 => (
  ck (inb p0 (nd_Ln a8)) (
  bn (sA h4 a8 (Int32.toNatClampNeg p0) 2) fun h10 => (
  bn (sI h10 603 this ((gI h10 603 this) + 1)) fun h11 => (
  ca (fX6_numeral F d this h11) fun v13 h12 => (
  if v13 = 0 then
  (some h12)
  else
  (nn (gP h12 622 this) fun a16 => (
  ck (inb p0 (nd_Ln a16)) (
  bn (sA h12 a16 (Int32.toNatClampNeg p0) (gI h12 606 this)) fun h18 => (
  cv (fX6_unwrap F d this p1 h18) fun h19 => (
  nn (gP h19 611 this) fun a22 => (
  ck (inb (gI h19 623 this) (nd_Ln a22)) (
  if (gA h19 a22 (Int32.toNatClampNeg (gI h19 623 this))) = 1 then
  (ca (fX6_in F d (gI h19 606 this) 0 1 h19) fun v43 h42 => (
  fX6_component_161 F d this v43 h42))
  else
  (nn (gP h19 611 this) fun a26 => (
  ck (inb (gI h19 623 this) (nd_Ln a26)) (
  if (gA h19 a26 (Int32.toNatClampNeg (gI h19 623 this))) = 2 then
  (nn (gP h19 618 this) fun a30 => (
  ck (inb (gI h19 623 this) (nd_Ln a30)) (
  if (gA h19 a30 (Int32.toNatClampNeg (gI h19 623 this))) = 0 then
  (fX6_component_156 F d this h19)
  else
  (nn (gP h19 612 this) fun a34 => (
  ck (inb (gI h19 623 this) (nd_Ln a34)) (
  nn (gP h19 613 this) fun a37 => (
  ck (inb (gI h19 623 this) (nd_Ln a37)) (
  ca (fX6_in F d (gI h19 606 this) (gA h19 a34 (Int32.toNatClampNeg (gI h19 623 this))) (gA h19 a37 (Int32.toNatClampNeg (gI h19 623 this))) h19) fun v40 h39 => (
  if v40 = 0 then
  (fX6_component_160 F d this h39)
  else
  (fX6_component_156 F d this h39))))))))))
  else
  (fX6_component_160 F d this h19)))))))))))))))))
  else
  (some h4))))
theorem mw_X6_component : nd_MW yX6_component cX6_component 4 none 2 := ⟨q1593, q91, by decide, by decide, by decide +kernel⟩
set_option maxHeartbeats 4000000 in
theorem tX6_component_161 (l : Launch) (w : Wd) (hfl : l.stackTraces = false) (F d : Nat) (r : Hp) (this : Nat) (s0 : Int32) (k_this : nd_Kd this = 5) (h : Hp) (hf : fX6_component_161 F d this s0 h = some r) : nd_V l w yX6_component cX6_component 4 none 2 47 (.inl none, r) h 161 [(0, vr (some this))] [vi s0] := by
  unfold fX6_component_161 at hf
  refine nd_istore_n [(3, vi s0), (0, vr (some this))] dX6_component_161 rfl (Nat.le_of_ble_eq_true rfl) rfl ?_
  refine nd_iload_n (j := 0) dX6_component_162 rfl rfl ?_
  refine nd_if_ne (tgt := 178) dX6_component_163 (by decide) (fun c1 => ?_) (fun c1 => ?_)
  · replace hf := ifn c1 hf
    cases hf
    exact nd_vret dX6_component_178
  · replace hf := ifp c1 hf
    refine nd_aload_n (j := 1) dX6_component_166 rfl rfl ?_
    refine nd_iconst (v := 4) dX6_component_167 (by decide) ?_
    refine nd_aload_n (j := 1) dX6_component_168 rfl rfl ?_
    refine nd_getI (k := 3) dX6_component_169 k_this rfl (Nat.le_of_ble_eq_true rfl) (nd_flO q1343) rfl ?_
    refine nd_iconst (v := 1) dX6_component_172 (by decide) ?_
    refine nd_isub dX6_component_173 ?_
    replace hf := caE hf
    obtain ⟨v3, h2, e_h2, hf⟩ := hf
    refine nd_Vi [] (tX6_stop l w hfl F d k_this e_h2) rfl dX6_component_174 mw_X6_stop (Or.inl q1545) k_this rfl q1547 qs32 (by omega) (by omega) (Nat.le_of_ble_eq_true rfl) ?_
    refine nd_pop dX6_component_177 rfl ?_
    cases hf
    exact nd_vret dX6_component_178
set_option maxHeartbeats 4000000 in
theorem tX6_component_160 (l : Launch) (w : Wd) (hfl : l.stackTraces = false) (F d : Nat) (r : Hp) (this : Nat) (k_this : nd_Kd this = 5) (h : Hp) (hf : fX6_component_160 F d this h = some r) : nd_V l w yX6_component cX6_component 4 none 2 47 (.inl none, r) h 160 [(0, vr (some this))] [] := by
  unfold fX6_component_160 at hf
  refine nd_iconst (v := 0) dX6_component_160 (by decide) ?_
  exact nd_loc [0] rfl (tX6_component_161 l w hfl F d r _ _ k_this _ hf)
set_option maxHeartbeats 4000000 in
theorem tX6_component_156 (l : Launch) (w : Wd) (hfl : l.stackTraces = false) (F d : Nat) (r : Hp) (this : Nat) (k_this : nd_Kd this = 5) (h : Hp) (hf : fX6_component_156 F d this h = some r) : nd_V l w yX6_component cX6_component 4 none 2 47 (.inl none, r) h 156 [(0, vr (some this))] [] := by
  unfold fX6_component_156 at hf
  refine nd_iconst (v := 1) dX6_component_156 (by decide) ?_
  refine nd_goto (tgt := 161) dX6_component_157 (by decide) ?_
  exact nd_loc [0] rfl (tX6_component_161 l w hfl F d r _ _ k_this _ hf)
set_option maxHeartbeats 4000000 in
theorem tX6_component (l : Launch) (w : Wd) (hfl : l.stackTraces = false) (F d : Nat) {this : Nat} {p0 : Int32} {p1 : Int32} (k_this : nd_Kd this = 5) {h : Hp} {r : Hp} (hf : fX6_component F d this p0 p1 h = some r) : nd_C l w yX6_component cX6_component 4 none 2 47 [vr (some this), vi p0, vi p1] h (.inl none, r) := by
  refine nd_start (as := [vr (some this), vi p0, vi p1]) hfl (by decide) (Nat.le_of_ble_eq_true rfl) ?_
  unfold fX6_component at hf
  refine nd_eqL (L' := [(0, vr (some this)), (1, vi p0), (2, vi p1)]) rfl ?_
  refine nd_aload_n (j := 0) dX6_component_0 rfl rfl ?_
  replace hf := caE hf
  obtain ⟨v2, h1, e_h1, hf⟩ := hf
  refine nd_Vi [] (tX6_look l w hfl F d k_this e_h1) rfl dX6_component_1 mw_X6_look (Or.inl q1538) k_this rfl q1540 qs31 (by omega) (by omega) (Nat.le_of_ble_eq_true rfl) ?_
  refine nd_bipush (v := 63) dX6_component_4 (by decide) ?_
  refine nd_icmp_ne (tgt := 29) dX6_component_6 (by decide) (fun c3 => ?_) (fun c3 => ?_)
  · replace hf := ifn c3 hf
    refine nd_aload_n (j := 0) dX6_component_29 rfl rfl ?_
    replace hf := caE hf
    obtain ⟨v5, h4, e_h4, hf⟩ := hf
    refine nd_Vi [] (tX6_look l w hfl F d k_this e_h4) rfl dX6_component_30 mw_X6_look (Or.inl q1538) k_this rfl q1540 qs31 (by omega) (by omega) (Nat.le_of_ble_eq_true rfl) ?_
    refine nd_bipush (v := 61) dX6_component_33 (by decide) ?_
    refine nd_icmp_ne (tgt := 178) dX6_component_35 (by decide) (fun c6 => ?_) (fun c6 => ?_)
    · replace hf := ifn c6 hf
      cases hf
      exact nd_vret dX6_component_178
    · replace hf := ifp c6 hf
      refine nd_aload_n (j := 0) dX6_component_38 rfl rfl ?_
      refine nd_getP (k := 21) dX6_component_39 k_this rfl (Nat.le_of_ble_eq_true rfl) (nd_flO q1361) rfl (fun ok7 => ?_)
      replace hf := nnE hf
      obtain ⟨a8, e_a8, hf⟩ := hf
      refine nd_topr e_a8.symm ?_
      have k_a8 : nd_Kd a8 = 20 := nd_c1 (ok7 a8 e_a8)
      refine nd_iload_n (j := 1) dX6_component_42 rfl rfl ?_
      refine nd_iconst (v := 2) dX6_component_43 (by decide) ?_
      replace hf := ckE hf
      obtain ⟨c9, hf⟩ := hf
      refine nd_iast dX6_component_44 k_a8 c9 ?_
      replace hf := bnE hf
      obtain ⟨h10, e_h10, hf⟩ := hf
      refine nd_hp e_h10 ?_
      refine nd_aload_n (j := 0) dX6_component_45 rfl rfl ?_
      refine nd_dup dX6_component_46 rfl ?_
      refine nd_getI (k := 3) dX6_component_47 k_this rfl (Nat.le_of_ble_eq_true rfl) (nd_flO q1343) rfl ?_
      refine nd_iconst (v := 1) dX6_component_50 (by decide) ?_
      refine nd_iadd dX6_component_51 ?_
      refine nd_putN (k := 3) dX6_component_52 k_this rfl (Nat.le_of_ble_eq_true rfl) (nd_flO q1343) rfl rfl rfl ?_
      replace hf := bnE hf
      obtain ⟨h11, e_h11, hf⟩ := hf
      refine nd_hp e_h11 ?_
      refine nd_aload_n (j := 0) dX6_component_55 rfl rfl ?_
      replace hf := caE hf
      obtain ⟨v13, h12, e_h12, hf⟩ := hf
      refine nd_Vi [] (tX6_numeral l w hfl F d k_this e_h12) rfl dX6_component_56 mw_X6_numeral (Or.inl q1581) k_this rfl q1583 qs41 (by omega) (by omega) (Nat.le_of_ble_eq_true rfl) ?_
      refine nd_if_ne (tgt := 63) dX6_component_59 (by decide) (fun c14 => ?_) (fun c14 => ?_)
      · replace hf := ifn c14 hf
        refine nd_aload_n (j := 0) dX6_component_63 rfl rfl ?_
        refine nd_getP (k := 22) dX6_component_64 k_this rfl (Nat.le_of_ble_eq_true rfl) (nd_flO q1362) rfl (fun ok15 => ?_)
        replace hf := nnE hf
        obtain ⟨a16, e_a16, hf⟩ := hf
        refine nd_topr e_a16.symm ?_
        have k_a16 : nd_Kd a16 = 20 := nd_c1 (ok15 a16 e_a16)
        refine nd_iload_n (j := 1) dX6_component_67 rfl rfl ?_
        refine nd_aload_n (j := 0) dX6_component_68 rfl rfl ?_
        refine nd_getI (k := 6) dX6_component_69 k_this rfl (Nat.le_of_ble_eq_true rfl) (nd_flO q1346) rfl ?_
        replace hf := ckE hf
        obtain ⟨c17, hf⟩ := hf
        refine nd_iast dX6_component_72 k_a16 c17 ?_
        replace hf := bnE hf
        obtain ⟨h18, e_h18, hf⟩ := hf
        refine nd_hp e_h18 ?_
        refine nd_aload_n (j := 0) dX6_component_73 rfl rfl ?_
        refine nd_iload_n (j := 2) dX6_component_74 rfl rfl ?_
        replace hf := cvE hf
        obtain ⟨h19, e_h19, hf⟩ := hf
        refine nd_Vv [] (tX6_unwrap l w hfl F d k_this e_h19) rfl dX6_component_75 mw_X6_unwrap (Or.inl q1594) k_this rfl q1596 qs44 (by omega) (by omega) (Nat.le_of_ble_eq_true rfl) ?_
        refine nd_aload_n (j := 0) dX6_component_78 rfl rfl ?_
        refine nd_getP (k := 11) dX6_component_79 k_this rfl (Nat.le_of_ble_eq_true rfl) (nd_flO q1351) rfl (fun ok21 => ?_)
        replace hf := nnE hf
        obtain ⟨a22, e_a22, hf⟩ := hf
        refine nd_topr e_a22.symm ?_
        have k_a22 : nd_Kd a22 = 20 := nd_c1 (ok21 a22 e_a22)
        refine nd_aload_n (j := 0) dX6_component_82 rfl rfl ?_
        refine nd_getI (k := 23) dX6_component_83 k_this rfl (Nat.le_of_ble_eq_true rfl) (nd_flO q1363) rfl ?_
        replace hf := ckE hf
        obtain ⟨c23, hf⟩ := hf
        refine nd_iald dX6_component_86 k_a22 c23 ?_
        refine nd_iconst (v := 1) dX6_component_87 (by decide) ?_
        refine nd_icmp_ne (tgt := 103) dX6_component_88 (by decide) (fun c24 => ?_) (fun c24 => ?_)
        · replace hf := ifn c24 hf
          refine nd_aload_n (j := 0) dX6_component_103 rfl rfl ?_
          refine nd_getP (k := 11) dX6_component_104 k_this rfl (Nat.le_of_ble_eq_true rfl) (nd_flO q1351) rfl (fun ok25 => ?_)
          replace hf := nnE hf
          obtain ⟨a26, e_a26, hf⟩ := hf
          refine nd_topr e_a26.symm ?_
          have k_a26 : nd_Kd a26 = 20 := nd_c1 (ok25 a26 e_a26)
          refine nd_aload_n (j := 0) dX6_component_107 rfl rfl ?_
          refine nd_getI (k := 23) dX6_component_108 k_this rfl (Nat.le_of_ble_eq_true rfl) (nd_flO q1363) rfl ?_
          replace hf := ckE hf
          obtain ⟨c27, hf⟩ := hf
          refine nd_iald dX6_component_111 k_a26 c27 ?_
          refine nd_iconst (v := 2) dX6_component_112 (by decide) ?_
          refine nd_icmp_ne (tgt := 160) dX6_component_113 (by decide) (fun c28 => ?_) (fun c28 => ?_)
          · replace hf := ifn c28 hf
            exact nd_loc [0] rfl (tX6_component_160 l w hfl F d r _ k_this _ hf)
          · replace hf := ifp c28 hf
            refine nd_aload_n (j := 0) dX6_component_116 rfl rfl ?_
            refine nd_getP (k := 18) dX6_component_117 k_this rfl (Nat.le_of_ble_eq_true rfl) (nd_flO q1358) rfl (fun ok29 => ?_)
            replace hf := nnE hf
            obtain ⟨a30, e_a30, hf⟩ := hf
            refine nd_topr e_a30.symm ?_
            have k_a30 : nd_Kd a30 = 22 := nd_c1 (ok29 a30 e_a30)
            refine nd_aload_n (j := 0) dX6_component_120 rfl rfl ?_
            refine nd_getI (k := 23) dX6_component_121 k_this rfl (Nat.le_of_ble_eq_true rfl) (nd_flO q1363) rfl ?_
            replace hf := ckE hf
            obtain ⟨c31, hf⟩ := hf
            refine nd_zald dX6_component_124 k_a30 c31 ?_
            refine nd_if_eq (tgt := 156) dX6_component_125 (by decide) (fun c32 => ?_) (fun c32 => ?_)
            · replace hf := ifp c32 hf
              exact nd_loc [0] rfl (tX6_component_156 l w hfl F d r _ k_this _ hf)
            · replace hf := ifn c32 hf
              refine nd_aload_n (j := 0) dX6_component_128 rfl rfl ?_
              refine nd_getI (k := 6) dX6_component_129 k_this rfl (Nat.le_of_ble_eq_true rfl) (nd_flO q1346) rfl ?_
              refine nd_aload_n (j := 0) dX6_component_132 rfl rfl ?_
              refine nd_getP (k := 12) dX6_component_133 k_this rfl (Nat.le_of_ble_eq_true rfl) (nd_flO q1352) rfl (fun ok33 => ?_)
              replace hf := nnE hf
              obtain ⟨a34, e_a34, hf⟩ := hf
              refine nd_topr e_a34.symm ?_
              have k_a34 : nd_Kd a34 = 20 := nd_c1 (ok33 a34 e_a34)
              refine nd_aload_n (j := 0) dX6_component_136 rfl rfl ?_
              refine nd_getI (k := 23) dX6_component_137 k_this rfl (Nat.le_of_ble_eq_true rfl) (nd_flO q1363) rfl ?_
              replace hf := ckE hf
              obtain ⟨c35, hf⟩ := hf
              refine nd_iald dX6_component_140 k_a34 c35 ?_
              refine nd_aload_n (j := 0) dX6_component_141 rfl rfl ?_
              refine nd_getP (k := 13) dX6_component_142 k_this rfl (Nat.le_of_ble_eq_true rfl) (nd_flO q1353) rfl (fun ok36 => ?_)
              replace hf := nnE hf
              obtain ⟨a37, e_a37, hf⟩ := hf
              refine nd_topr e_a37.symm ?_
              have k_a37 : nd_Kd a37 = 20 := nd_c1 (ok36 a37 e_a37)
              refine nd_aload_n (j := 0) dX6_component_145 rfl rfl ?_
              refine nd_getI (k := 23) dX6_component_146 k_this rfl (Nat.le_of_ble_eq_true rfl) (nd_flO q1363) rfl ?_
              replace hf := ckE hf
              obtain ⟨c38, hf⟩ := hf
              refine nd_iald dX6_component_149 k_a37 c38 ?_
              replace hf := caE hf
              obtain ⟨v40, h39, e_h39, hf⟩ := hf
              refine nd_Si [] (tX6_in l w hfl F d e_h39) rfl dX6_component_150 mw_X6_in (Or.inl q1542) q1543 (by omega) (by omega) (Nat.le_of_ble_eq_true rfl) ?_
              refine nd_if_eq (tgt := 160) dX6_component_153 (by decide) (fun c41 => ?_) (fun c41 => ?_)
              · replace hf := ifp c41 hf
                exact nd_loc [0] rfl (tX6_component_160 l w hfl F d r _ k_this _ hf)
              · replace hf := ifn c41 hf
                exact nd_loc [0] rfl (tX6_component_156 l w hfl F d r _ k_this _ hf)
        · replace hf := ifp c24 hf
          refine nd_aload_n (j := 0) dX6_component_91 rfl rfl ?_
          refine nd_getI (k := 6) dX6_component_92 k_this rfl (Nat.le_of_ble_eq_true rfl) (nd_flO q1346) rfl ?_
          refine nd_iconst (v := 0) dX6_component_95 (by decide) ?_
          refine nd_iconst (v := 1) dX6_component_96 (by decide) ?_
          replace hf := caE hf
          obtain ⟨v43, h42, e_h42, hf⟩ := hf
          refine nd_Si [] (tX6_in l w hfl F d e_h42) rfl dX6_component_97 mw_X6_in (Or.inl q1542) q1543 (by omega) (by omega) (Nat.le_of_ble_eq_true rfl) ?_
          refine nd_goto (tgt := 161) dX6_component_100 (by decide) ?_
          exact nd_loc [0] rfl (tX6_component_161 l w hfl F d r _ _ k_this _ hf)
      · replace hf := ifp c14 hf
        cases hf
        exact nd_vret dX6_component_62
  · replace hf := ifp c3 hf
    refine nd_aload_n (j := 0) dX6_component_9 rfl rfl ?_
    refine nd_getP (k := 21) dX6_component_10 k_this rfl (Nat.le_of_ble_eq_true rfl) (nd_flO q1361) rfl (fun ok44 => ?_)
    replace hf := nnE hf
    obtain ⟨a45, e_a45, hf⟩ := hf
    refine nd_topr e_a45.symm ?_
    have k_a45 : nd_Kd a45 = 20 := nd_c1 (ok44 a45 e_a45)
    refine nd_iload_n (j := 1) dX6_component_13 rfl rfl ?_
    refine nd_iconst (v := 1) dX6_component_14 (by decide) ?_
    replace hf := ckE hf
    obtain ⟨c46, hf⟩ := hf
    refine nd_iast dX6_component_15 k_a45 c46 ?_
    replace hf := bnE hf
    obtain ⟨h47, e_h47, hf⟩ := hf
    refine nd_hp e_h47 ?_
    refine nd_aload_n (j := 0) dX6_component_16 rfl rfl ?_
    refine nd_dup dX6_component_17 rfl ?_
    refine nd_getI (k := 3) dX6_component_18 k_this rfl (Nat.le_of_ble_eq_true rfl) (nd_flO q1343) rfl ?_
    refine nd_iconst (v := 1) dX6_component_21 (by decide) ?_
    refine nd_iadd dX6_component_22 ?_
    refine nd_putN (k := 3) dX6_component_23 k_this rfl (Nat.le_of_ble_eq_true rfl) (nd_flO q1343) rfl rfl rfl ?_
    replace hf := bnE hf
    obtain ⟨h48, e_h48, hf⟩ := hf
    refine nd_hp e_h48 ?_
    refine nd_goto (tgt := 178) dX6_component_26 (by decide) ?_
    cases hf
    exact nd_vret dX6_component_178
def fX6_clashes_92 (F d : Nat) (k_10 : Nat → Int32 → Int32 → Int32 → Int32 → Hp → Option (Int32 × Hp)) (this : Nat) (x1 : Int32) (x2 : Int32) (x4 : Int32) (s0 : Int32) (h : Hp) : Option (Int32 × Hp) :=
  bn (x4 + 1) fun v1 => (
  k_10 this x1 x2 s0 v1 h)
def fX6_clashes_78 (F d : Nat) (k_10 : Nat → Int32 → Int32 → Int32 → Int32 → Hp → Option (Int32 × Hp)) (this : Nat) (x1 : Int32) (x2 : Int32) (x3 : Int32) (x4 : Int32) (h : Hp) : Option (Int32 × Hp) :=
  nn (gP h 616 this) fun a2 => (
  nn (gP h 620 this) fun a4 => (
  ck (inb x4 (nd_Ln a4)) (
  ck (inb (gA h a4 (Int32.toNatClampNeg x4)) (nd_Ln a2)) (
  fX6_clashes_92 F d k_10 this x1 x2 x4 (x3 ||| (gA h a2 (Int32.toNatClampNeg (gA h a4 (Int32.toNatClampNeg x4))))) h))))
def fX6_clashes_52 (F d : Nat) (k_10 : Nat → Int32 → Int32 → Int32 → Int32 → Hp → Option (Int32 × Hp)) (this : Nat) (x1 : Int32) (x3 : Int32) (x4 : Int32) (s0 : Int32) (h : Hp) : Option (Int32 × Hp) :=
  nn (gP h 611 this) fun a2 => (
  ck (inb x1 (nd_Ln a2)) (
  if (gA h a2 (Int32.toNatClampNeg x1)) = 6 then
  (nn (gP h 621 this) fun a6 => (
  ck (inb x4 (nd_Ln a6)) (
  if (gA h a6 (Int32.toNatClampNeg x4)) = 0 then
  (fX6_clashes_92 F d k_10 this x1 s0 x4 0 h)
  else
  (fX6_clashes_78 F d k_10 this x1 s0 x3 x4 h))))
  else
  (fX6_clashes_78 F d k_10 this x1 s0 x3 x4 h)))
def fX6_clashes_47 (F d : Nat) (k_10 : Nat → Int32 → Int32 → Int32 → Int32 → Hp → Option (Int32 × Hp)) (this : Nat) (x1 : Int32) (x3 : Int32) (x4 : Int32) (h : Hp) : Option (Int32 × Hp) :=
  fX6_clashes_52 F d k_10 this x1 x3 x4 1 h
def fX6_clashes_10 (F d : Nat) : Nat → Nat → Int32 → Int32 → Int32 → Int32 → Hp → Option (Int32 × Hp)
  | 0, _, _, _, _, _, _ => none
  | n + 1, this, x1, x2, x3, x4, h =>
    nn (gP h 615 this) fun a2 => (
    ck (inb x1 (nd_Ln a2)) (
    if ((6 * x1) + (gA h a2 (Int32.toNatClampNeg x1))) ≤ x4 then
    (nn (gP h 611 this) fun a6 => (
    ck (inb x1 (nd_Ln a6)) (
    if (gA h a6 (Int32.toNatClampNeg x1)) = 9 then
    (nn (gP h 616 this) fun a11 => (
    ck (inb x1 (nd_Ln a11)) (
    bn (sA h a11 (Int32.toNatClampNeg x1) x3) fun h13 => (
    ck (isB x2) (
    some (x2, h13))))))
    else
    (ck (isB x2) (
    some (x2, h))))))
    else
    (if x2 = 0 then
    (nn (gP h 616 this) fun a17 => (
    nn (gP h 620 this) fun a19 => (
    ck (inb x4 (nd_Ln a19)) (
    ck (inb (gA h a19 (Int32.toNatClampNeg x4)) (nd_Ln a17)) (
    if (x3 &&& (gA h a17 (Int32.toNatClampNeg (gA h a19 (Int32.toNatClampNeg x4))))) = 0 then
    (fX6_clashes_52 F d (fX6_clashes_10 F d n) this x1 x3 x4 0 h)
    else
    (fX6_clashes_47 F d (fX6_clashes_10 F d n) this x1 x3 x4 h))))))
    else
    (fX6_clashes_47 F d (fX6_clashes_10 F d n) this x1 x3 x4 h))))
def fX6_clashes (F d : Nat) (this : Nat) (p0 : Int32) (h : Hp) : Option (Int32 × Hp) :=
  bn (6 * p0) fun v1 => (
  fX6_clashes_10 F d F this p0 0 0 v1 h)
theorem mw_X6_clashes : nd_MW yX6_clashes cX6_clashes 5 (some .boolean) 1 := ⟨q1601, q91, by decide, by decide, by decide +kernel⟩
set_option maxHeartbeats 4000000 in
theorem tX6_clashes_92 (l : Launch) (w : Wd) (hfl : l.stackTraces = false) (F d : Nat) (r : Int32 × Hp) (k_10 : Nat → Int32 → Int32 → Int32 → Int32 → Hp → Option (Int32 × Hp)) (hk_10 : ∀ (this : Nat) (x1 : Int32) (x2 : Int32) (x3 : Int32) (x4 : Int32) (k_this : nd_Kd this = 5) (h : Hp), k_10 this x1 x2 x3 x4 h = some r → nd_V l w yX6_clashes cX6_clashes 5 (some .boolean) 0 0 (.inl (some (vi r.1)), r.2) h 10 [(0, vr (some this)), (1, vi x1), (2, vi x2), (3, vi x3), (4, vi x4)] []) (this : Nat) (x1 : Int32) (x2 : Int32) (x4 : Int32) (s0 : Int32) (k_this : nd_Kd this = 5) (h : Hp) (hf : fX6_clashes_92 F d k_10 this x1 x2 x4 s0 h = some r) : nd_V l w yX6_clashes cX6_clashes 5 (some .boolean) 0 0 (.inl (some (vi r.1)), r.2) h 92 [(0, vr (some this)), (1, vi x1), (2, vi x2), (4, vi x4)] [vi s0] := by
  unfold fX6_clashes_92 at hf
  refine nd_istore_n [(3, vi s0), (0, vr (some this)), (1, vi x1), (2, vi x2), (4, vi x4)] dX6_clashes_92 rfl (Nat.le_of_ble_eq_true rfl) rfl ?_
  replace hf := bnE hf
  obtain ⟨v1, e_v1, hf⟩ := hf
  refine nd_iinc (v := v1) (j := 4) [(4, vi v1), (3, vi s0), (0, vr (some this)), (1, vi x1), (2, vi x2)] dX6_clashes_93 rfl (by rw [e_v1]; rfl) (Nat.le_of_ble_eq_true rfl) rfl ?_
  refine nd_goto (tgt := 10) dX6_clashes_96 (by decide) ?_
  exact nd_loc [2, 3, 4, 1, 0] rfl (hk_10 _ _ _ _ _ k_this _ hf)
set_option maxHeartbeats 4000000 in
theorem tX6_clashes_78 (l : Launch) (w : Wd) (hfl : l.stackTraces = false) (F d : Nat) (r : Int32 × Hp) (k_10 : Nat → Int32 → Int32 → Int32 → Int32 → Hp → Option (Int32 × Hp)) (hk_10 : ∀ (this : Nat) (x1 : Int32) (x2 : Int32) (x3 : Int32) (x4 : Int32) (k_this : nd_Kd this = 5) (h : Hp), k_10 this x1 x2 x3 x4 h = some r → nd_V l w yX6_clashes cX6_clashes 5 (some .boolean) 0 0 (.inl (some (vi r.1)), r.2) h 10 [(0, vr (some this)), (1, vi x1), (2, vi x2), (3, vi x3), (4, vi x4)] []) (this : Nat) (x1 : Int32) (x2 : Int32) (x3 : Int32) (x4 : Int32) (k_this : nd_Kd this = 5) (h : Hp) (hf : fX6_clashes_78 F d k_10 this x1 x2 x3 x4 h = some r) : nd_V l w yX6_clashes cX6_clashes 5 (some .boolean) 0 0 (.inl (some (vi r.1)), r.2) h 78 [(0, vr (some this)), (1, vi x1), (2, vi x2), (3, vi x3), (4, vi x4)] [] := by
  unfold fX6_clashes_78 at hf
  refine nd_iload_n (j := 3) dX6_clashes_78 rfl rfl ?_
  refine nd_aload_n (j := 0) dX6_clashes_79 rfl rfl ?_
  refine nd_getP (k := 16) dX6_clashes_80 k_this rfl (Nat.le_of_ble_eq_true rfl) (nd_flO q1356) rfl (fun ok1 => ?_)
  replace hf := nnE hf
  obtain ⟨a2, e_a2, hf⟩ := hf
  refine nd_topr e_a2.symm ?_
  have k_a2 : nd_Kd a2 = 20 := nd_c1 (ok1 a2 e_a2)
  refine nd_aload_n (j := 0) dX6_clashes_83 rfl rfl ?_
  refine nd_getP (k := 20) dX6_clashes_84 k_this rfl (Nat.le_of_ble_eq_true rfl) (nd_flO q1360) rfl (fun ok3 => ?_)
  replace hf := nnE hf
  obtain ⟨a4, e_a4, hf⟩ := hf
  refine nd_topr e_a4.symm ?_
  have k_a4 : nd_Kd a4 = 20 := nd_c1 (ok3 a4 e_a4)
  refine nd_iload (j := 4) dX6_clashes_87 rfl ?_
  replace hf := ckE hf
  obtain ⟨c5, hf⟩ := hf
  refine nd_iald dX6_clashes_89 k_a4 c5 ?_
  replace hf := ckE hf
  obtain ⟨c6, hf⟩ := hf
  refine nd_iald dX6_clashes_90 k_a2 c6 ?_
  refine nd_ior dX6_clashes_91 ?_
  exact nd_loc [0, 1, 2, 4] rfl (tX6_clashes_92 l w hfl F d r k_10 hk_10 _ _ _ _ _ k_this _ hf)
set_option maxHeartbeats 4000000 in
theorem tX6_clashes_52 (l : Launch) (w : Wd) (hfl : l.stackTraces = false) (F d : Nat) (r : Int32 × Hp) (k_10 : Nat → Int32 → Int32 → Int32 → Int32 → Hp → Option (Int32 × Hp)) (hk_10 : ∀ (this : Nat) (x1 : Int32) (x2 : Int32) (x3 : Int32) (x4 : Int32) (k_this : nd_Kd this = 5) (h : Hp), k_10 this x1 x2 x3 x4 h = some r → nd_V l w yX6_clashes cX6_clashes 5 (some .boolean) 0 0 (.inl (some (vi r.1)), r.2) h 10 [(0, vr (some this)), (1, vi x1), (2, vi x2), (3, vi x3), (4, vi x4)] []) (this : Nat) (x1 : Int32) (x3 : Int32) (x4 : Int32) (s0 : Int32) (k_this : nd_Kd this = 5) (h : Hp) (hf : fX6_clashes_52 F d k_10 this x1 x3 x4 s0 h = some r) : nd_V l w yX6_clashes cX6_clashes 5 (some .boolean) 0 0 (.inl (some (vi r.1)), r.2) h 52 [(0, vr (some this)), (1, vi x1), (3, vi x3), (4, vi x4)] [vi s0] := by
  unfold fX6_clashes_52 at hf
  refine nd_istore_n [(2, vi s0), (0, vr (some this)), (1, vi x1), (3, vi x3), (4, vi x4)] dX6_clashes_52 rfl (Nat.le_of_ble_eq_true rfl) rfl ?_
  refine nd_aload_n (j := 1) dX6_clashes_53 rfl rfl ?_
  refine nd_getP (k := 11) dX6_clashes_54 k_this rfl (Nat.le_of_ble_eq_true rfl) (nd_flO q1351) rfl (fun ok1 => ?_)
  replace hf := nnE hf
  obtain ⟨a2, e_a2, hf⟩ := hf
  refine nd_topr e_a2.symm ?_
  have k_a2 : nd_Kd a2 = 20 := nd_c1 (ok1 a2 e_a2)
  refine nd_iload_n (j := 2) dX6_clashes_57 rfl rfl ?_
  replace hf := ckE hf
  obtain ⟨c3, hf⟩ := hf
  refine nd_iald dX6_clashes_58 k_a2 c3 ?_
  refine nd_bipush (v := 6) dX6_clashes_59 (by decide) ?_
  refine nd_icmp_ne (tgt := 78) dX6_clashes_61 (by decide) (fun c4 => ?_) (fun c4 => ?_)
  · replace hf := ifn c4 hf
    exact nd_loc [1, 2, 0, 3, 4] rfl (tX6_clashes_78 l w hfl F d r k_10 hk_10 _ _ _ _ _ k_this _ hf)
  · replace hf := ifp c4 hf
    refine nd_aload_n (j := 1) dX6_clashes_64 rfl rfl ?_
    refine nd_getP (k := 21) dX6_clashes_65 k_this rfl (Nat.le_of_ble_eq_true rfl) (nd_flO q1361) rfl (fun ok5 => ?_)
    replace hf := nnE hf
    obtain ⟨a6, e_a6, hf⟩ := hf
    refine nd_topr e_a6.symm ?_
    have k_a6 : nd_Kd a6 = 20 := nd_c1 (ok5 a6 e_a6)
    refine nd_iload (j := 4) dX6_clashes_68 rfl ?_
    replace hf := ckE hf
    obtain ⟨c7, hf⟩ := hf
    refine nd_iald dX6_clashes_70 k_a6 c7 ?_
    refine nd_if_ne (tgt := 78) dX6_clashes_71 (by decide) (fun c8 => ?_) (fun c8 => ?_)
    · replace hf := ifn c8 hf
      exact nd_loc [1, 2, 0, 3, 4] rfl (tX6_clashes_78 l w hfl F d r k_10 hk_10 _ _ _ _ _ k_this _ hf)
    · replace hf := ifp c8 hf
      refine nd_iconst (v := 0) dX6_clashes_74 (by decide) ?_
      refine nd_goto (tgt := 92) dX6_clashes_75 (by decide) ?_
      exact nd_loc [1, 2, 0, 4] rfl (tX6_clashes_92 l w hfl F d r k_10 hk_10 _ _ _ _ _ k_this _ hf)
set_option maxHeartbeats 4000000 in
theorem tX6_clashes_47 (l : Launch) (w : Wd) (hfl : l.stackTraces = false) (F d : Nat) (r : Int32 × Hp) (k_10 : Nat → Int32 → Int32 → Int32 → Int32 → Hp → Option (Int32 × Hp)) (hk_10 : ∀ (this : Nat) (x1 : Int32) (x2 : Int32) (x3 : Int32) (x4 : Int32) (k_this : nd_Kd this = 5) (h : Hp), k_10 this x1 x2 x3 x4 h = some r → nd_V l w yX6_clashes cX6_clashes 5 (some .boolean) 0 0 (.inl (some (vi r.1)), r.2) h 10 [(0, vr (some this)), (1, vi x1), (2, vi x2), (3, vi x3), (4, vi x4)] []) (this : Nat) (x1 : Int32) (x3 : Int32) (x4 : Int32) (k_this : nd_Kd this = 5) (h : Hp) (hf : fX6_clashes_47 F d k_10 this x1 x3 x4 h = some r) : nd_V l w yX6_clashes cX6_clashes 5 (some .boolean) 0 0 (.inl (some (vi r.1)), r.2) h 47 [(0, vr (some this)), (1, vi x1), (3, vi x3), (4, vi x4)] [] := by
  unfold fX6_clashes_47 at hf
  refine nd_iconst (v := 1) dX6_clashes_47 (by decide) ?_
  refine nd_goto (tgt := 52) dX6_clashes_48 (by decide) ?_
  exact nd_loc [0, 1, 2, 3] rfl (tX6_clashes_52 l w hfl F d r k_10 hk_10 _ _ _ _ _ k_this _ hf)
set_option maxHeartbeats 4000000 in
theorem tX6_clashes_10 (l : Launch) (w : Wd) (hfl : l.stackTraces = false) (F d : Nat) (r : Int32 × Hp) : ∀ (n : Nat) (this : Nat) (x1 : Int32) (x2 : Int32) (x3 : Int32) (x4 : Int32) (k_this : nd_Kd this = 5) (h : Hp), fX6_clashes_10 F d n this x1 x2 x3 x4 h = some r → nd_V l w yX6_clashes cX6_clashes 5 (some .boolean) 0 0 (.inl (some (vi r.1)), r.2) h 10 [(0, vr (some this)), (1, vi x1), (2, vi x2), (3, vi x3), (4, vi x4)] [] := by
  intro n
  induction n with
  | zero => intro _ _ _ _ _ _ _ hf; cases hf
  | succ n ih =>
    intro this x1 x2 x3 x4 k_this h hf
    unfold fX6_clashes_10 at hf
    refine nd_iload (j := 4) dX6_clashes_10 rfl ?_
    refine nd_bipush (v := 6) dX6_clashes_12 (by decide) ?_
    refine nd_iload_n (j := 1) dX6_clashes_14 rfl rfl ?_
    refine nd_imul dX6_clashes_15 ?_
    refine nd_aload_n (j := 0) dX6_clashes_16 rfl rfl ?_
    refine nd_getP (k := 15) dX6_clashes_17 k_this rfl (Nat.le_of_ble_eq_true rfl) (nd_flO q1355) rfl (fun ok1 => ?_)
    replace hf := nnE hf
    obtain ⟨a2, e_a2, hf⟩ := hf
    refine nd_topr e_a2.symm ?_
    have k_a2 : nd_Kd a2 = 20 := nd_c1 (ok1 a2 e_a2)
    refine nd_iload_n (j := 1) dX6_clashes_20 rfl rfl ?_
    replace hf := ckE hf
    obtain ⟨c3, hf⟩ := hf
    refine nd_iald dX6_clashes_21 k_a2 c3 ?_
    refine nd_iadd dX6_clashes_22 ?_
    refine nd_icmp_ge (tgt := 99) dX6_clashes_23 (by decide) (fun c4 => ?_) (fun c4 => ?_)
    · replace hf := ifp c4 hf
      refine nd_aload_n (j := 0) dX6_clashes_99 rfl rfl ?_
      refine nd_getP (k := 11) dX6_clashes_100 k_this rfl (Nat.le_of_ble_eq_true rfl) (nd_flO q1351) rfl (fun ok5 => ?_)
      replace hf := nnE hf
      obtain ⟨a6, e_a6, hf⟩ := hf
      refine nd_topr e_a6.symm ?_
      have k_a6 : nd_Kd a6 = 20 := nd_c1 (ok5 a6 e_a6)
      refine nd_iload_n (j := 1) dX6_clashes_103 rfl rfl ?_
      replace hf := ckE hf
      obtain ⟨c7, hf⟩ := hf
      refine nd_iald dX6_clashes_104 k_a6 c7 ?_
      refine nd_bipush (v := 9) dX6_clashes_105 (by decide) ?_
      refine nd_icmp_ne (tgt := 117) dX6_clashes_107 (by decide) (fun c8 => ?_) (fun c8 => ?_)
      · replace hf := ifn c8 hf
        refine nd_iload_n (j := 2) dX6_clashes_117 rfl rfl ?_
        replace hf := ckE hf
        obtain ⟨c9, hf⟩ := hf
        cases hf
        exact nd_zret (v := x2) c9 dX6_clashes_118
      · replace hf := ifp c8 hf
        refine nd_aload_n (j := 0) dX6_clashes_110 rfl rfl ?_
        refine nd_getP (k := 16) dX6_clashes_111 k_this rfl (Nat.le_of_ble_eq_true rfl) (nd_flO q1356) rfl (fun ok10 => ?_)
        replace hf := nnE hf
        obtain ⟨a11, e_a11, hf⟩ := hf
        refine nd_topr e_a11.symm ?_
        have k_a11 : nd_Kd a11 = 20 := nd_c1 (ok10 a11 e_a11)
        refine nd_iload_n (j := 1) dX6_clashes_114 rfl rfl ?_
        refine nd_iload_n (j := 3) dX6_clashes_115 rfl rfl ?_
        replace hf := ckE hf
        obtain ⟨c12, hf⟩ := hf
        refine nd_iast dX6_clashes_116 k_a11 c12 ?_
        replace hf := bnE hf
        obtain ⟨h13, e_h13, hf⟩ := hf
        refine nd_hp e_h13 ?_
        refine nd_iload_n (j := 2) dX6_clashes_117 rfl rfl ?_
        replace hf := ckE hf
        obtain ⟨c14, hf⟩ := hf
        cases hf
        exact nd_zret (v := x2) c14 dX6_clashes_118
    · replace hf := ifn c4 hf
      refine nd_iload_n (j := 2) dX6_clashes_26 rfl rfl ?_
      refine nd_if_ne (tgt := 47) dX6_clashes_27 (by decide) (fun c15 => ?_) (fun c15 => ?_)
      · replace hf := ifn c15 hf
        exact nd_loc [0, 1, 3, 4] rfl (tX6_clashes_47 l w hfl F d r (fX6_clashes_10 F d n) ih _ _ _ _ k_this _ hf)
      · replace hf := ifp c15 hf
        refine nd_iload_n (j := 3) dX6_clashes_30 rfl rfl ?_
        refine nd_aload_n (j := 0) dX6_clashes_31 rfl rfl ?_
        refine nd_getP (k := 16) dX6_clashes_32 k_this rfl (Nat.le_of_ble_eq_true rfl) (nd_flO q1356) rfl (fun ok16 => ?_)
        replace hf := nnE hf
        obtain ⟨a17, e_a17, hf⟩ := hf
        refine nd_topr e_a17.symm ?_
        have k_a17 : nd_Kd a17 = 20 := nd_c1 (ok16 a17 e_a17)
        refine nd_aload_n (j := 0) dX6_clashes_35 rfl rfl ?_
        refine nd_getP (k := 20) dX6_clashes_36 k_this rfl (Nat.le_of_ble_eq_true rfl) (nd_flO q1360) rfl (fun ok18 => ?_)
        replace hf := nnE hf
        obtain ⟨a19, e_a19, hf⟩ := hf
        refine nd_topr e_a19.symm ?_
        have k_a19 : nd_Kd a19 = 20 := nd_c1 (ok18 a19 e_a19)
        refine nd_iload (j := 4) dX6_clashes_39 rfl ?_
        replace hf := ckE hf
        obtain ⟨c20, hf⟩ := hf
        refine nd_iald dX6_clashes_41 k_a19 c20 ?_
        replace hf := ckE hf
        obtain ⟨c21, hf⟩ := hf
        refine nd_iald dX6_clashes_42 k_a17 c21 ?_
        refine nd_iand dX6_clashes_43 ?_
        refine nd_if_eq (tgt := 51) dX6_clashes_44 (by decide) (fun c22 => ?_) (fun c22 => ?_)
        · replace hf := ifp c22 hf
          refine nd_iconst (v := 0) dX6_clashes_51 (by decide) ?_
          exact nd_loc [0, 1, 3, 4] rfl (tX6_clashes_52 l w hfl F d r (fX6_clashes_10 F d n) ih _ _ _ _ _ k_this _ hf)
        · replace hf := ifn c22 hf
          exact nd_loc [0, 1, 3, 4] rfl (tX6_clashes_47 l w hfl F d r (fX6_clashes_10 F d n) ih _ _ _ _ k_this _ hf)
set_option maxHeartbeats 4000000 in
theorem tX6_clashes (l : Launch) (w : Wd) (hfl : l.stackTraces = false) (F d : Nat) {this : Nat} {p0 : Int32} (k_this : nd_Kd this = 5) {h : Hp} {r : Int32 × Hp} (hf : fX6_clashes F d this p0 h = some r) : nd_C l w yX6_clashes cX6_clashes 5 (some .boolean) 0 0 [vr (some this), vi p0] h (.inl (some (vi r.1)), r.2) := by
  refine nd_start (as := [vr (some this), vi p0]) hfl (by decide) (Nat.le_of_ble_eq_true rfl) ?_
  unfold fX6_clashes at hf
  refine nd_eqL (L' := [(0, vr (some this)), (1, vi p0)]) rfl ?_
  refine nd_iconst (v := 0) dX6_clashes_0 (by decide) ?_
  refine nd_istore_n [(2, vi 0), (0, vr (some this)), (1, vi p0)] dX6_clashes_1 rfl (Nat.le_of_ble_eq_true rfl) rfl ?_
  refine nd_iconst (v := 0) dX6_clashes_2 (by decide) ?_
  refine nd_istore_n [(3, vi 0), (2, vi 0), (0, vr (some this)), (1, vi p0)] dX6_clashes_3 rfl (Nat.le_of_ble_eq_true rfl) rfl ?_
  refine nd_bipush (v := 6) dX6_clashes_4 (by decide) ?_
  refine nd_iload_n (j := 3) dX6_clashes_6 rfl rfl ?_
  refine nd_imul dX6_clashes_7 ?_
  replace hf := bnE hf
  obtain ⟨v1, e_v1, hf⟩ := hf
  refine nd_top e_v1 ?_
  refine nd_istore [(4, vi v1), (3, vi 0), (2, vi 0), (0, vr (some this)), (1, vi p0)] dX6_clashes_8 (Nat.le_of_ble_eq_true rfl) rfl ?_
  exact nd_loc [3, 4, 2, 1, 0] rfl (tX6_clashes_10 l w hfl F d r F _ _ _ _ _ k_this _ hf)
def fX6_end_242 (F d : Nat) (this : Nat) (x2 : Int32) (h : Hp) : Option (Int32 × Hp) :=
  bn (sI h 605 this ((gI h 605 this) - 1)) fun h1 => (
  some (x2, h1))
def fX6_end_193 (F d : Nat) (this : Nat) (x2 : Int32) (h : Hp) : Option (Int32 × Hp) :=
  bn (sI h 603 this ((gI h 603 this) + 1)) fun h1 => (
  nn (gP h1 607 this) fun a3 => (
  ck (inb ((gI h1 603 this) - 1) (nd_Ln a3)) (
  if (gA h1 a3 (Int32.toNatClampNeg ((gI h1 603 this) - 1))) = 44 then
  (some ((-1), h1))
  else
  (ca (fX6_clashes F d this x2 h1) fun v7 h6 => (
  if v7 = 0 then
  (fX6_end_242 F d this x2 h6)
  else
  (ca (fX6_stop F d this 6 ((gI h6 603 this) - 1) h6) fun v10 h9 => (
  some (v10, h9))))))))
def fX6_end_165 (F d : Nat) (this : Nat) (x2 : Int32) (h : Hp) : Option (Int32 × Hp) :=
  ca (fX6_look F d this h) fun v2 h1 => (
  if v2 = 44 then
  (fX6_end_193 F d this x2 h1)
  else
  (ca (fX6_look F d this h1) fun v5 h4 => (
  if v5 = 125 then
  (fX6_end_193 F d this x2 h4)
  else
  (ca (fX6_stop F d this 1 (gI h4 603 this) h4) fun v8 h7 => (
  some (v8, h7))))))
def fX6_end_134 (F d : Nat) (this : Nat) (x2 : Int32) (h : Hp) : Option (Int32 × Hp) :=
  ca (fX6_look F d this h) fun v2 h1 => (
  if v2 = 44 then
  (nn (gP h1 615 this) fun a5 => (
  ck (inb x2 (nd_Ln a5)) (
  if (gA h1 a5 (Int32.toNatClampNeg x2)) = 6 then
  (ca (fX6_stop F d this 7 (gI h1 603 this) h1) fun v9 h8 => (
  some (v9, h8)))
  else
  (fX6_end_165 F d this x2 h1))))
  else
  (fX6_end_165 F d this x2 h1))
def fX6_end_103 (F d : Nat) (this : Nat) (x2 : Int32) (h : Hp) : Option (Int32 × Hp) :=
  if (gI h 604 this) ≤ 0 then
  (nn (gP h 611 this) fun a3 => (
  ck (inb x2 (nd_Ln a3)) (
  if (gA h a3 (Int32.toNatClampNeg x2)) = 6 then
  (fX6_end_134 F d this x2 h)
  else
  (nn (gP h 611 this) fun a7 => (
  ck (inb x2 (nd_Ln a7)) (
  if (gA h a7 (Int32.toNatClampNeg x2)) = 9 then
  (fX6_end_134 F d this x2 h)
  else
  (fX6_end_242 F d this x2 h)))))))
  else
  (some ((-1), h))
def fX6_end_85 (F d : Nat) (this : Nat) (x1 : Int32) (x2 : Int32) (x3 : Int32) (s0 : Nat) (s1 : Int32) (s2 : Int32) (h : Hp) : Option (Int32 × Hp) :=
  ck (inb s1 (nd_Ln s0)) (
  bn (sA h s0 (Int32.toNatClampNeg s1) s2) fun h2 => (
  nn (gP h2 611 this) fun a4 => (
  ck (inb x2 (nd_Ln a4)) (
  if (gA h2 a4 (Int32.toNatClampNeg x2)) = 6 then
  (cv (fX6_component F d this x3 x1 h2) fun h7 => (
  fX6_end_103 F d this x2 h7))
  else
  (fX6_end_103 F d this x2 h2)))))
def fX6_end (F d : Nat) (this : Nat) (p0 : Int32) (h : Hp) : Option (Int32 × Hp) :=
  nn (gP h 608 this) fun a2 => (
  ck (inb ((gI h 605 this) - 1) (nd_Ln a2)) (
  bn (gA h a2 (Int32.toNatClampNeg ((gI h 605 this) - 1))) fun v4 => (
  nn (gP h 615 this) fun a6 => (
  ck (inb v4 (nd_Ln a6)) (
  bn ((6 * v4) + (gA h a6 (Int32.toNatClampNeg v4))) fun v8 => (
  nn (gP h 620 this) fun a10 => (
  ck (inb v8 (nd_Ln a10)) (
  bn (sA h a10 (Int32.toNatClampNeg v8) p0) fun h12 => (
  nn (gP h12 621 this) fun a14 => (
  ck (inb v8 (nd_Ln a14)) (
  bn (sA h12 a14 (Int32.toNatClampNeg v8) 0) fun h16 => (
  nn (gP h16 615 this) fun a18 => (
  ck (inb v4 (nd_Ln a18)) (
  ck (inb v4 (nd_Ln a18)) (
  bn (sA h16 a18 (Int32.toNatClampNeg v4) ((gA h16 a18 (Int32.toNatClampNeg v4)) + 1)) fun h21 => (
  nn (gP h21 617 this) fun a23 => (
  nn (gP h21 617 this) fun a25 => (
  ck (inb p0 (nd_Ln a25)) (
  nn (gP h21 617 this) fun a28 => (
  ck (inb v4 (nd_Ln a28)) (
  if (gA h21 a25 (Int32.toNatClampNeg p0)) < (gA h21 a28 (Int32.toNatClampNeg v4)) then
  (nn (gP h21 617 this) fun a32 => (
  ck (inb v4 (nd_Ln a32)) (
  fX6_end_85 F d this p0 v4 v8 a23 v4 (gA h21 a32 (Int32.toNatClampNeg v4)) h21)))
  else
  (nn (gP h21 617 this) fun a35 => (
  ck (inb p0 (nd_Ln a35)) (
  fX6_end_85 F d this p0 v4 v8 a23 v4 ((gA h21 a35 (Int32.toNatClampNeg p0)) + 1) h21))))))))))))))))))))))))
theorem mw_X6_end : nd_MW yX6_end cX6_end 4 (some .int) 1 := ⟨q1589, q91, by decide, by decide, by decide +kernel⟩
set_option maxHeartbeats 4000000 in
theorem tX6_end_242 (l : Launch) (w : Wd) (hfl : l.stackTraces = false) (F d : Nat) (r : Int32 × Hp) (this : Nat) (x2 : Int32) (k_this : nd_Kd this = 5) (h : Hp) (hf : fX6_end_242 F d this x2 h = some r) : nd_V l w yX6_end cX6_end 4 (some .int) 3 70 (.inl (some (vi r.1)), r.2) h 242 [(0, vr (some this)), (2, vi x2)] [] := by
  unfold fX6_end_242 at hf
  refine nd_aload_n (j := 0) dX6_end_242 rfl rfl ?_
  refine nd_dup dX6_end_243 rfl ?_
  refine nd_getI (k := 5) dX6_end_244 k_this rfl (Nat.le_of_ble_eq_true rfl) (nd_flO q1345) rfl ?_
  refine nd_iconst (v := 1) dX6_end_247 (by decide) ?_
  refine nd_isub dX6_end_248 ?_
  refine nd_putN (k := 5) dX6_end_249 k_this rfl (Nat.le_of_ble_eq_true rfl) (nd_flO q1345) rfl rfl rfl ?_
  replace hf := bnE hf
  obtain ⟨h1, e_h1, hf⟩ := hf
  refine nd_hp e_h1 ?_
  refine nd_iload_n (j := 1) dX6_end_252 rfl rfl ?_
  cases hf
  exact nd_iret (v := x2) dX6_end_253
set_option maxHeartbeats 4000000 in
theorem tX6_end_193 (l : Launch) (w : Wd) (hfl : l.stackTraces = false) (F d : Nat) (r : Int32 × Hp) (this : Nat) (x2 : Int32) (k_this : nd_Kd this = 5) (h : Hp) (hf : fX6_end_193 F d this x2 h = some r) : nd_V l w yX6_end cX6_end 4 (some .int) 3 70 (.inl (some (vi r.1)), r.2) h 193 [(0, vr (some this)), (2, vi x2)] [] := by
  unfold fX6_end_193 at hf
  refine nd_aload_n (j := 0) dX6_end_193 rfl rfl ?_
  refine nd_dup dX6_end_194 rfl ?_
  refine nd_getI (k := 3) dX6_end_195 k_this rfl (Nat.le_of_ble_eq_true rfl) (nd_flO q1343) rfl ?_
  refine nd_iconst (v := 1) dX6_end_198 (by decide) ?_
  refine nd_iadd dX6_end_199 ?_
  refine nd_putN (k := 3) dX6_end_200 k_this rfl (Nat.le_of_ble_eq_true rfl) (nd_flO q1343) rfl rfl rfl ?_
  replace hf := bnE hf
  obtain ⟨h1, e_h1, hf⟩ := hf
  refine nd_hp e_h1 ?_
  refine nd_aload_n (j := 0) dX6_end_203 rfl rfl ?_
  refine nd_getP (k := 7) dX6_end_204 k_this rfl (Nat.le_of_ble_eq_true rfl) (nd_flO q1347) rfl (fun ok2 => ?_)
  replace hf := nnE hf
  obtain ⟨a3, e_a3, hf⟩ := hf
  refine nd_topr e_a3.symm ?_
  have k_a3 : nd_Kd a3 = 21 := nd_c1 (ok2 a3 e_a3)
  refine nd_aload_n (j := 0) dX6_end_207 rfl rfl ?_
  refine nd_getI (k := 3) dX6_end_208 k_this rfl (Nat.le_of_ble_eq_true rfl) (nd_flO q1343) rfl ?_
  refine nd_iconst (v := 1) dX6_end_211 (by decide) ?_
  refine nd_isub dX6_end_212 ?_
  replace hf := ckE hf
  obtain ⟨c4, hf⟩ := hf
  refine nd_cald dX6_end_213 k_a3 c4 ?_
  refine nd_bipush (v := 44) dX6_end_214 (by decide) ?_
  refine nd_icmp_ne (tgt := 221) dX6_end_216 (by decide) (fun c5 => ?_) (fun c5 => ?_)
  · replace hf := ifn c5 hf
    refine nd_aload_n (j := 0) dX6_end_221 rfl rfl ?_
    refine nd_iload_n (j := 1) dX6_end_222 rfl rfl ?_
    replace hf := caE hf
    obtain ⟨v7, h6, e_h6, hf⟩ := hf
    refine nd_Vi [] (tX6_clashes l w hfl F d k_this e_h6) rfl dX6_end_223 mw_X6_clashes (Or.inl q1598) k_this rfl q1600 qs45 (by omega) (by omega) (Nat.le_of_ble_eq_true rfl) ?_
    refine nd_if_eq (tgt := 242) dX6_end_226 (by decide) (fun c8 => ?_) (fun c8 => ?_)
    · replace hf := ifp c8 hf
      exact nd_loc [0, 1] rfl (tX6_end_242 l w hfl F d r _ _ k_this _ hf)
    · replace hf := ifn c8 hf
      refine nd_aload_n (j := 0) dX6_end_229 rfl rfl ?_
      refine nd_bipush (v := 6) dX6_end_230 (by decide) ?_
      refine nd_aload_n (j := 0) dX6_end_232 rfl rfl ?_
      refine nd_getI (k := 3) dX6_end_233 k_this rfl (Nat.le_of_ble_eq_true rfl) (nd_flO q1343) rfl ?_
      refine nd_iconst (v := 1) dX6_end_236 (by decide) ?_
      refine nd_isub dX6_end_237 ?_
      replace hf := caE hf
      obtain ⟨v10, h9, e_h9, hf⟩ := hf
      refine nd_Vi [] (tX6_stop l w hfl F d k_this e_h9) rfl dX6_end_238 mw_X6_stop (Or.inl q1545) k_this rfl q1547 qs32 (by omega) (by omega) (Nat.le_of_ble_eq_true rfl) ?_
      cases hf
      exact nd_iret (v := v10) dX6_end_241
  · replace hf := ifp c5 hf
    refine nd_iconst (v := (-1)) dX6_end_219 (by decide) ?_
    cases hf
    exact nd_iret (v := (-1)) dX6_end_220
set_option maxHeartbeats 4000000 in
theorem tX6_end_165 (l : Launch) (w : Wd) (hfl : l.stackTraces = false) (F d : Nat) (r : Int32 × Hp) (this : Nat) (x2 : Int32) (k_this : nd_Kd this = 5) (h : Hp) (hf : fX6_end_165 F d this x2 h = some r) : nd_V l w yX6_end cX6_end 4 (some .int) 3 70 (.inl (some (vi r.1)), r.2) h 165 [(0, vr (some this)), (2, vi x2)] [] := by
  unfold fX6_end_165 at hf
  refine nd_aload_n (j := 0) dX6_end_165 rfl rfl ?_
  replace hf := caE hf
  obtain ⟨v2, h1, e_h1, hf⟩ := hf
  refine nd_Vi [] (tX6_look l w hfl F d k_this e_h1) rfl dX6_end_166 mw_X6_look (Or.inl q1538) k_this rfl q1540 qs31 (by omega) (by omega) (Nat.le_of_ble_eq_true rfl) ?_
  refine nd_bipush (v := 44) dX6_end_169 (by decide) ?_
  refine nd_icmp_eq (tgt := 193) dX6_end_171 (by decide) (fun c3 => ?_) (fun c3 => ?_)
  · replace hf := ifp c3 hf
    exact nd_loc [0, 1] rfl (tX6_end_193 l w hfl F d r _ _ k_this _ hf)
  · replace hf := ifn c3 hf
    refine nd_aload_n (j := 0) dX6_end_174 rfl rfl ?_
    replace hf := caE hf
    obtain ⟨v5, h4, e_h4, hf⟩ := hf
    refine nd_Vi [] (tX6_look l w hfl F d k_this e_h4) rfl dX6_end_175 mw_X6_look (Or.inl q1538) k_this rfl q1540 qs31 (by omega) (by omega) (Nat.le_of_ble_eq_true rfl) ?_
    refine nd_bipush (v := 125) dX6_end_178 (by decide) ?_
    refine nd_icmp_eq (tgt := 193) dX6_end_180 (by decide) (fun c6 => ?_) (fun c6 => ?_)
    · replace hf := ifp c6 hf
      exact nd_loc [0, 1] rfl (tX6_end_193 l w hfl F d r _ _ k_this _ hf)
    · replace hf := ifn c6 hf
      refine nd_aload_n (j := 0) dX6_end_183 rfl rfl ?_
      refine nd_iconst (v := 1) dX6_end_184 (by decide) ?_
      refine nd_aload_n (j := 0) dX6_end_185 rfl rfl ?_
      refine nd_getI (k := 3) dX6_end_186 k_this rfl (Nat.le_of_ble_eq_true rfl) (nd_flO q1343) rfl ?_
      replace hf := caE hf
      obtain ⟨v8, h7, e_h7, hf⟩ := hf
      refine nd_Vi [] (tX6_stop l w hfl F d k_this e_h7) rfl dX6_end_189 mw_X6_stop (Or.inl q1545) k_this rfl q1547 qs32 (by omega) (by omega) (Nat.le_of_ble_eq_true rfl) ?_
      cases hf
      exact nd_iret (v := v8) dX6_end_192
set_option maxHeartbeats 4000000 in
theorem tX6_end_134 (l : Launch) (w : Wd) (hfl : l.stackTraces = false) (F d : Nat) (r : Int32 × Hp) (this : Nat) (x2 : Int32) (k_this : nd_Kd this = 5) (h : Hp) (hf : fX6_end_134 F d this x2 h = some r) : nd_V l w yX6_end cX6_end 4 (some .int) 3 70 (.inl (some (vi r.1)), r.2) h 134 [(0, vr (some this)), (2, vi x2)] [] := by
  unfold fX6_end_134 at hf
  refine nd_aload_n (j := 0) dX6_end_134 rfl rfl ?_
  replace hf := caE hf
  obtain ⟨v2, h1, e_h1, hf⟩ := hf
  refine nd_Vi [] (tX6_look l w hfl F d k_this e_h1) rfl dX6_end_135 mw_X6_look (Or.inl q1538) k_this rfl q1540 qs31 (by omega) (by omega) (Nat.le_of_ble_eq_true rfl) ?_
  refine nd_bipush (v := 44) dX6_end_138 (by decide) ?_
  refine nd_icmp_ne (tgt := 165) dX6_end_140 (by decide) (fun c3 => ?_) (fun c3 => ?_)
  · replace hf := ifn c3 hf
    exact nd_loc [0, 1] rfl (tX6_end_165 l w hfl F d r _ _ k_this _ hf)
  · replace hf := ifp c3 hf
    refine nd_aload_n (j := 0) dX6_end_143 rfl rfl ?_
    refine nd_getP (k := 15) dX6_end_144 k_this rfl (Nat.le_of_ble_eq_true rfl) (nd_flO q1355) rfl (fun ok4 => ?_)
    replace hf := nnE hf
    obtain ⟨a5, e_a5, hf⟩ := hf
    refine nd_topr e_a5.symm ?_
    have k_a5 : nd_Kd a5 = 20 := nd_c1 (ok4 a5 e_a5)
    refine nd_iload_n (j := 1) dX6_end_147 rfl rfl ?_
    replace hf := ckE hf
    obtain ⟨c6, hf⟩ := hf
    refine nd_iald dX6_end_148 k_a5 c6 ?_
    refine nd_bipush (v := 6) dX6_end_149 (by decide) ?_
    refine nd_icmp_ne (tgt := 165) dX6_end_151 (by decide) (fun c7 => ?_) (fun c7 => ?_)
    · replace hf := ifn c7 hf
      exact nd_loc [0, 1] rfl (tX6_end_165 l w hfl F d r _ _ k_this _ hf)
    · replace hf := ifp c7 hf
      refine nd_aload_n (j := 0) dX6_end_154 rfl rfl ?_
      refine nd_bipush (v := 7) dX6_end_155 (by decide) ?_
      refine nd_aload_n (j := 0) dX6_end_157 rfl rfl ?_
      refine nd_getI (k := 3) dX6_end_158 k_this rfl (Nat.le_of_ble_eq_true rfl) (nd_flO q1343) rfl ?_
      replace hf := caE hf
      obtain ⟨v9, h8, e_h8, hf⟩ := hf
      refine nd_Vi [] (tX6_stop l w hfl F d k_this e_h8) rfl dX6_end_161 mw_X6_stop (Or.inl q1545) k_this rfl q1547 qs32 (by omega) (by omega) (Nat.le_of_ble_eq_true rfl) ?_
      cases hf
      exact nd_iret (v := v9) dX6_end_164
set_option maxHeartbeats 4000000 in
theorem tX6_end_103 (l : Launch) (w : Wd) (hfl : l.stackTraces = false) (F d : Nat) (r : Int32 × Hp) (this : Nat) (x2 : Int32) (k_this : nd_Kd this = 5) (h : Hp) (hf : fX6_end_103 F d this x2 h = some r) : nd_V l w yX6_end cX6_end 4 (some .int) 3 70 (.inl (some (vi r.1)), r.2) h 103 [(0, vr (some this)), (2, vi x2)] [] := by
  unfold fX6_end_103 at hf
  refine nd_aload_n (j := 0) dX6_end_103 rfl rfl ?_
  refine nd_getI (k := 4) dX6_end_104 k_this rfl (Nat.le_of_ble_eq_true rfl) (nd_flO q1344) rfl ?_
  refine nd_if_le (tgt := 112) dX6_end_107 (by decide) (fun c1 => ?_) (fun c1 => ?_)
  · replace hf := ifp c1 hf
    refine nd_aload_n (j := 0) dX6_end_112 rfl rfl ?_
    refine nd_getP (k := 11) dX6_end_113 k_this rfl (Nat.le_of_ble_eq_true rfl) (nd_flO q1351) rfl (fun ok2 => ?_)
    replace hf := nnE hf
    obtain ⟨a3, e_a3, hf⟩ := hf
    refine nd_topr e_a3.symm ?_
    have k_a3 : nd_Kd a3 = 20 := nd_c1 (ok2 a3 e_a3)
    refine nd_iload_n (j := 1) dX6_end_116 rfl rfl ?_
    replace hf := ckE hf
    obtain ⟨c4, hf⟩ := hf
    refine nd_iald dX6_end_117 k_a3 c4 ?_
    refine nd_bipush (v := 6) dX6_end_118 (by decide) ?_
    refine nd_icmp_eq (tgt := 134) dX6_end_120 (by decide) (fun c5 => ?_) (fun c5 => ?_)
    · replace hf := ifp c5 hf
      exact nd_loc [0, 1] rfl (tX6_end_134 l w hfl F d r _ _ k_this _ hf)
    · replace hf := ifn c5 hf
      refine nd_aload_n (j := 0) dX6_end_123 rfl rfl ?_
      refine nd_getP (k := 11) dX6_end_124 k_this rfl (Nat.le_of_ble_eq_true rfl) (nd_flO q1351) rfl (fun ok6 => ?_)
      replace hf := nnE hf
      obtain ⟨a7, e_a7, hf⟩ := hf
      refine nd_topr e_a7.symm ?_
      have k_a7 : nd_Kd a7 = 20 := nd_c1 (ok6 a7 e_a7)
      refine nd_iload_n (j := 1) dX6_end_127 rfl rfl ?_
      replace hf := ckE hf
      obtain ⟨c8, hf⟩ := hf
      refine nd_iald dX6_end_128 k_a7 c8 ?_
      refine nd_bipush (v := 9) dX6_end_129 (by decide) ?_
      refine nd_icmp_ne (tgt := 242) dX6_end_131 (by decide) (fun c9 => ?_) (fun c9 => ?_)
      · replace hf := ifn c9 hf
        exact nd_loc [0, 1] rfl (tX6_end_242 l w hfl F d r _ _ k_this _ hf)
      · replace hf := ifp c9 hf
        exact nd_loc [0, 1] rfl (tX6_end_134 l w hfl F d r _ _ k_this _ hf)
  · replace hf := ifn c1 hf
    refine nd_iconst (v := (-1)) dX6_end_110 (by decide) ?_
    cases hf
    exact nd_iret (v := (-1)) dX6_end_111
set_option maxHeartbeats 4000000 in
theorem tX6_end_85 (l : Launch) (w : Wd) (hfl : l.stackTraces = false) (F d : Nat) (r : Int32 × Hp) (this : Nat) (x1 : Int32) (x2 : Int32) (x3 : Int32) (s0 : Nat) (s1 : Int32) (s2 : Int32) (k_this : nd_Kd this = 5) (k_s0 : nd_Kd s0 = 20) (h : Hp) (hf : fX6_end_85 F d this x1 x2 x3 s0 s1 s2 h = some r) : nd_V l w yX6_end cX6_end 4 (some .int) 3 70 (.inl (some (vi r.1)), r.2) h 85 [(0, vr (some this)), (1, vi x1), (2, vi x2), (3, vi x3)] [vi s2, vi s1, vr (some s0)] := by
  unfold fX6_end_85 at hf
  replace hf := ckE hf
  obtain ⟨c1, hf⟩ := hf
  refine nd_iast dX6_end_85 k_s0 c1 ?_
  replace hf := bnE hf
  obtain ⟨h2, e_h2, hf⟩ := hf
  refine nd_hp e_h2 ?_
  refine nd_aload_n (j := 0) dX6_end_86 rfl rfl ?_
  refine nd_getP (k := 11) dX6_end_87 k_this rfl (Nat.le_of_ble_eq_true rfl) (nd_flO q1351) rfl (fun ok3 => ?_)
  replace hf := nnE hf
  obtain ⟨a4, e_a4, hf⟩ := hf
  refine nd_topr e_a4.symm ?_
  have k_a4 : nd_Kd a4 = 20 := nd_c1 (ok3 a4 e_a4)
  refine nd_iload_n (j := 2) dX6_end_90 rfl rfl ?_
  replace hf := ckE hf
  obtain ⟨c5, hf⟩ := hf
  refine nd_iald dX6_end_91 k_a4 c5 ?_
  refine nd_bipush (v := 6) dX6_end_92 (by decide) ?_
  refine nd_icmp_ne (tgt := 103) dX6_end_94 (by decide) (fun c6 => ?_) (fun c6 => ?_)
  · replace hf := ifn c6 hf
    exact nd_loc [0, 2] rfl (tX6_end_103 l w hfl F d r _ _ k_this _ hf)
  · replace hf := ifp c6 hf
    refine nd_aload_n (j := 0) dX6_end_97 rfl rfl ?_
    refine nd_iload_n (j := 3) dX6_end_98 rfl rfl ?_
    refine nd_iload_n (j := 1) dX6_end_99 rfl rfl ?_
    replace hf := cvE hf
    obtain ⟨h7, e_h7, hf⟩ := hf
    refine nd_Vv [] (tX6_component l w hfl F d k_this e_h7) rfl dX6_end_100 mw_X6_component (Or.inl q1590) k_this rfl q1592 qs43 (by omega) (by omega) (Nat.le_of_ble_eq_true rfl) ?_
    exact nd_loc [0, 2] rfl (tX6_end_103 l w hfl F d r _ _ k_this _ hf)
set_option maxHeartbeats 4000000 in
theorem tX6_end (l : Launch) (w : Wd) (hfl : l.stackTraces = false) (F d : Nat) {this : Nat} {p0 : Int32} (k_this : nd_Kd this = 5) {h : Hp} {r : Int32 × Hp} (hf : fX6_end F d this p0 h = some r) : nd_C l w yX6_end cX6_end 4 (some .int) 3 70 [vr (some this), vi p0] h (.inl (some (vi r.1)), r.2) := by
  refine nd_start (as := [vr (some this), vi p0]) hfl (by decide) (Nat.le_of_ble_eq_true rfl) ?_
  unfold fX6_end at hf
  refine nd_eqL (L' := [(0, vr (some this)), (1, vi p0)]) rfl ?_
  refine nd_aload_n (j := 0) dX6_end_0 rfl rfl ?_
  refine nd_getP (k := 8) dX6_end_1 k_this rfl (Nat.le_of_ble_eq_true rfl) (nd_flO q1348) rfl (fun ok1 => ?_)
  replace hf := nnE hf
  obtain ⟨a2, e_a2, hf⟩ := hf
  refine nd_topr e_a2.symm ?_
  have k_a2 : nd_Kd a2 = 20 := nd_c1 (ok1 a2 e_a2)
  refine nd_aload_n (j := 0) dX6_end_4 rfl rfl ?_
  refine nd_getI (k := 5) dX6_end_5 k_this rfl (Nat.le_of_ble_eq_true rfl) (nd_flO q1345) rfl ?_
  refine nd_iconst (v := 1) dX6_end_8 (by decide) ?_
  refine nd_isub dX6_end_9 ?_
  replace hf := ckE hf
  obtain ⟨c3, hf⟩ := hf
  refine nd_iald dX6_end_10 k_a2 c3 ?_
  replace hf := bnE hf
  obtain ⟨v4, e_v4, hf⟩ := hf
  refine nd_top e_v4 ?_
  refine nd_istore_n [(2, vi v4), (0, vr (some this)), (1, vi p0)] dX6_end_11 rfl (Nat.le_of_ble_eq_true rfl) rfl ?_
  refine nd_bipush (v := 6) dX6_end_12 (by decide) ?_
  refine nd_iload_n (j := 0) dX6_end_14 rfl rfl ?_
  refine nd_imul dX6_end_15 ?_
  refine nd_aload_n (j := 1) dX6_end_16 rfl rfl ?_
  refine nd_getP (k := 15) dX6_end_17 k_this rfl (Nat.le_of_ble_eq_true rfl) (nd_flO q1355) rfl (fun ok5 => ?_)
  replace hf := nnE hf
  obtain ⟨a6, e_a6, hf⟩ := hf
  refine nd_topr e_a6.symm ?_
  have k_a6 : nd_Kd a6 = 20 := nd_c1 (ok5 a6 e_a6)
  refine nd_iload_n (j := 0) dX6_end_20 rfl rfl ?_
  replace hf := ckE hf
  obtain ⟨c7, hf⟩ := hf
  refine nd_iald dX6_end_21 k_a6 c7 ?_
  refine nd_iadd dX6_end_22 ?_
  replace hf := bnE hf
  obtain ⟨v8, e_v8, hf⟩ := hf
  refine nd_top e_v8 ?_
  refine nd_istore_n [(3, vi v8), (2, vi v4), (0, vr (some this)), (1, vi p0)] dX6_end_23 rfl (Nat.le_of_ble_eq_true rfl) rfl ?_
  refine nd_aload_n (j := 2) dX6_end_24 rfl rfl ?_
  refine nd_getP (k := 20) dX6_end_25 k_this rfl (Nat.le_of_ble_eq_true rfl) (nd_flO q1360) rfl (fun ok9 => ?_)
  replace hf := nnE hf
  obtain ⟨a10, e_a10, hf⟩ := hf
  refine nd_topr e_a10.symm ?_
  have k_a10 : nd_Kd a10 = 20 := nd_c1 (ok9 a10 e_a10)
  refine nd_iload_n (j := 0) dX6_end_28 rfl rfl ?_
  refine nd_iload_n (j := 3) dX6_end_29 rfl rfl ?_
  replace hf := ckE hf
  obtain ⟨c11, hf⟩ := hf
  refine nd_iast dX6_end_30 k_a10 c11 ?_
  replace hf := bnE hf
  obtain ⟨h12, e_h12, hf⟩ := hf
  refine nd_hp e_h12 ?_
  refine nd_aload_n (j := 2) dX6_end_31 rfl rfl ?_
  refine nd_getP (k := 21) dX6_end_32 k_this rfl (Nat.le_of_ble_eq_true rfl) (nd_flO q1361) rfl (fun ok13 => ?_)
  replace hf := nnE hf
  obtain ⟨a14, e_a14, hf⟩ := hf
  refine nd_topr e_a14.symm ?_
  have k_a14 : nd_Kd a14 = 20 := nd_c1 (ok13 a14 e_a14)
  refine nd_iload_n (j := 0) dX6_end_35 rfl rfl ?_
  refine nd_iconst (v := 0) dX6_end_36 (by decide) ?_
  replace hf := ckE hf
  obtain ⟨c15, hf⟩ := hf
  refine nd_iast dX6_end_37 k_a14 c15 ?_
  replace hf := bnE hf
  obtain ⟨h16, e_h16, hf⟩ := hf
  refine nd_hp e_h16 ?_
  refine nd_aload_n (j := 2) dX6_end_38 rfl rfl ?_
  refine nd_getP (k := 15) dX6_end_39 k_this rfl (Nat.le_of_ble_eq_true rfl) (nd_flO q1355) rfl (fun ok17 => ?_)
  replace hf := nnE hf
  obtain ⟨a18, e_a18, hf⟩ := hf
  refine nd_topr e_a18.symm ?_
  have k_a18 : nd_Kd a18 = 20 := nd_c1 (ok17 a18 e_a18)
  refine nd_iload_n (j := 1) dX6_end_42 rfl rfl ?_
  refine nd_dup2 dX6_end_43 rfl rfl ?_
  replace hf := ckE hf
  obtain ⟨c19, hf⟩ := hf
  refine nd_iald dX6_end_44 k_a18 c19 ?_
  refine nd_iconst (v := 1) dX6_end_45 (by decide) ?_
  refine nd_iadd dX6_end_46 ?_
  replace hf := ckE hf
  obtain ⟨c20, hf⟩ := hf
  refine nd_iast dX6_end_47 k_a18 c20 ?_
  replace hf := bnE hf
  obtain ⟨h21, e_h21, hf⟩ := hf
  refine nd_hp e_h21 ?_
  refine nd_aload_n (j := 2) dX6_end_48 rfl rfl ?_
  refine nd_getP (k := 17) dX6_end_49 k_this rfl (Nat.le_of_ble_eq_true rfl) (nd_flO q1357) rfl (fun ok22 => ?_)
  replace hf := nnE hf
  obtain ⟨a23, e_a23, hf⟩ := hf
  refine nd_topr e_a23.symm ?_
  have k_a23 : nd_Kd a23 = 20 := nd_c1 (ok22 a23 e_a23)
  refine nd_iload_n (j := 1) dX6_end_52 rfl rfl ?_
  refine nd_aload_n (j := 2) dX6_end_53 rfl rfl ?_
  refine nd_getP (k := 17) dX6_end_54 k_this rfl (Nat.le_of_ble_eq_true rfl) (nd_flO q1357) rfl (fun ok24 => ?_)
  replace hf := nnE hf
  obtain ⟨a25, e_a25, hf⟩ := hf
  refine nd_topr e_a25.symm ?_
  have k_a25 : nd_Kd a25 = 20 := nd_c1 (ok24 a25 e_a25)
  refine nd_iload_n (j := 3) dX6_end_57 rfl rfl ?_
  replace hf := ckE hf
  obtain ⟨c26, hf⟩ := hf
  refine nd_iald dX6_end_58 k_a25 c26 ?_
  refine nd_aload_n (j := 2) dX6_end_59 rfl rfl ?_
  refine nd_getP (k := 17) dX6_end_60 k_this rfl (Nat.le_of_ble_eq_true rfl) (nd_flO q1357) rfl (fun ok27 => ?_)
  replace hf := nnE hf
  obtain ⟨a28, e_a28, hf⟩ := hf
  refine nd_topr e_a28.symm ?_
  have k_a28 : nd_Kd a28 = 20 := nd_c1 (ok27 a28 e_a28)
  refine nd_iload_n (j := 1) dX6_end_63 rfl rfl ?_
  replace hf := ckE hf
  obtain ⟨c29, hf⟩ := hf
  refine nd_iald dX6_end_64 k_a28 c29 ?_
  refine nd_icmp_lt (tgt := 79) dX6_end_65 (by decide) (fun c30 => ?_) (fun c30 => ?_)
  · replace hf := ifp c30 hf
    refine nd_aload_n (j := 2) dX6_end_79 rfl rfl ?_
    refine nd_getP (k := 17) dX6_end_80 k_this rfl (Nat.le_of_ble_eq_true rfl) (nd_flO q1357) rfl (fun ok31 => ?_)
    replace hf := nnE hf
    obtain ⟨a32, e_a32, hf⟩ := hf
    refine nd_topr e_a32.symm ?_
    have k_a32 : nd_Kd a32 = 20 := nd_c1 (ok31 a32 e_a32)
    refine nd_iload_n (j := 1) dX6_end_83 rfl rfl ?_
    replace hf := ckE hf
    obtain ⟨c33, hf⟩ := hf
    refine nd_iald dX6_end_84 k_a32 c33 ?_
    exact nd_loc [2, 3, 1, 0] rfl (tX6_end_85 l w hfl F d r _ _ _ _ _ _ _ k_this k_a23 _ hf)
  · replace hf := ifn c30 hf
    refine nd_aload_n (j := 2) dX6_end_68 rfl rfl ?_
    refine nd_getP (k := 17) dX6_end_69 k_this rfl (Nat.le_of_ble_eq_true rfl) (nd_flO q1357) rfl (fun ok34 => ?_)
    replace hf := nnE hf
    obtain ⟨a35, e_a35, hf⟩ := hf
    refine nd_topr e_a35.symm ?_
    have k_a35 : nd_Kd a35 = 20 := nd_c1 (ok34 a35 e_a35)
    refine nd_iload_n (j := 3) dX6_end_72 rfl rfl ?_
    replace hf := ckE hf
    obtain ⟨c36, hf⟩ := hf
    refine nd_iald dX6_end_73 k_a35 c36 ?_
    refine nd_iconst (v := 1) dX6_end_74 (by decide) ?_
    refine nd_iadd dX6_end_75 ?_
    refine nd_goto (tgt := 85) dX6_end_76 (by decide) ?_
    exact nd_loc [2, 3, 1, 0] rfl (tX6_end_85 l w hfl F d r _ _ _ _ _ _ _ k_this k_a23 _ hf)
def fX6_whole_50 (F d : Nat) (k_5 : Nat → Hp → Option (Int32 × Hp)) (this : Nat) (h : Hp) : Option (Int32 × Hp) :=
  k_5 this h
def fX6_whole_37 (F d : Nat) (k_5 : Nat → Hp → Option (Int32 × Hp)) (this : Nat) (x1 : Int32) (h : Hp) : Option (Int32 × Hp) :=
  if x1 < 0 then
  (fX6_whole_50 F d k_5 this h)
  else
  (if (gI h 604 this) = 0 then
  (some (x1, h))
  else
  (fX6_whole_50 F d k_5 this h))
def fX6_whole_17 (F d : Nat) (k_5 : Nat → Hp → Option (Int32 × Hp)) : Nat → Nat → Int32 → Hp → Option (Int32 × Hp)
  | 0, _, _, _ => none
  | n + 1, this, x1, h =>
    if x1 < 0 then
    (fX6_whole_37 F d k_5 this x1 h)
    else
    (if (gI h 605 this) ≤ 0 then
    (fX6_whole_37 F d k_5 this x1 h)
    else
    (ca (fX6_end F d this x1 h) fun v4 h3 => (
    fX6_whole_17 F d k_5 n this v4 h3)))
def fX6_whole_5 (F d : Nat) : Nat → Nat → Hp → Option (Int32 × Hp)
  | 0, _, _ => none
  | n + 1, this, h =>
    if (gI h 604 this) = 0 then
    (ca (fX6_begin F d this h) fun v3 h2 => (
    fX6_whole_17 F d (fX6_whole_5 F d n) F this v3 h2))
    else
    (some ((-1), h))
def fX6_whole (F d : Nat) (this : Nat) (h : Hp) : Option (Int32 × Hp) :=
  bn (sI h 605 this 0) fun h1 => (
  fX6_whole_5 F d F this h1)
theorem mw_X6_whole : nd_MW yX6_whole cX6_whole 2 (some .int) 0 := ⟨q1556, q91, by decide, by decide, by decide +kernel⟩
set_option maxHeartbeats 4000000 in
theorem tX6_whole_50 (l : Launch) (w : Wd) (hfl : l.stackTraces = false) (F d : Nat) (r : Int32 × Hp) (k_5 : Nat → Hp → Option (Int32 × Hp)) (hk_5 : ∀ (this : Nat) (k_this : nd_Kd this = 5) (h : Hp), k_5 this h = some r → nd_V l w yX6_whole cX6_whole 2 (some .int) 4 93 (.inl (some (vi r.1)), r.2) h 5 [(0, vr (some this))] []) (this : Nat) (k_this : nd_Kd this = 5) (h : Hp) (hf : fX6_whole_50 F d k_5 this h = some r) : nd_V l w yX6_whole cX6_whole 2 (some .int) 4 93 (.inl (some (vi r.1)), r.2) h 50 [(0, vr (some this))] [] := by
  unfold fX6_whole_50 at hf
  refine nd_goto (tgt := 5) dX6_whole_50 (by decide) ?_
  exact nd_loc [0] rfl (hk_5 _ k_this _ hf)
set_option maxHeartbeats 4000000 in
theorem tX6_whole_37 (l : Launch) (w : Wd) (hfl : l.stackTraces = false) (F d : Nat) (r : Int32 × Hp) (k_5 : Nat → Hp → Option (Int32 × Hp)) (hk_5 : ∀ (this : Nat) (k_this : nd_Kd this = 5) (h : Hp), k_5 this h = some r → nd_V l w yX6_whole cX6_whole 2 (some .int) 4 93 (.inl (some (vi r.1)), r.2) h 5 [(0, vr (some this))] []) (this : Nat) (x1 : Int32) (k_this : nd_Kd this = 5) (h : Hp) (hf : fX6_whole_37 F d k_5 this x1 h = some r) : nd_V l w yX6_whole cX6_whole 2 (some .int) 4 93 (.inl (some (vi r.1)), r.2) h 37 [(0, vr (some this)), (1, vi x1)] [] := by
  unfold fX6_whole_37 at hf
  refine nd_iload_n (j := 1) dX6_whole_37 rfl rfl ?_
  refine nd_if_lt (tgt := 50) dX6_whole_38 (by decide) (fun c1 => ?_) (fun c1 => ?_)
  · replace hf := ifp c1 hf
    exact nd_loc [0] rfl (tX6_whole_50 l w hfl F d r k_5 hk_5 _ k_this _ hf)
  · replace hf := ifn c1 hf
    refine nd_aload_n (j := 0) dX6_whole_41 rfl rfl ?_
    refine nd_getI (k := 4) dX6_whole_42 k_this rfl (Nat.le_of_ble_eq_true rfl) (nd_flO q1344) rfl ?_
    refine nd_if_ne (tgt := 50) dX6_whole_45 (by decide) (fun c2 => ?_) (fun c2 => ?_)
    · replace hf := ifn c2 hf
      exact nd_loc [0] rfl (tX6_whole_50 l w hfl F d r k_5 hk_5 _ k_this _ hf)
    · replace hf := ifp c2 hf
      refine nd_iload_n (j := 1) dX6_whole_48 rfl rfl ?_
      cases hf
      exact nd_iret (v := x1) dX6_whole_49
set_option maxHeartbeats 4000000 in
theorem tX6_whole_17 (l : Launch) (w : Wd) (hfl : l.stackTraces = false) (F d : Nat) (r : Int32 × Hp) (k_5 : Nat → Hp → Option (Int32 × Hp)) (hk_5 : ∀ (this : Nat) (k_this : nd_Kd this = 5) (h : Hp), k_5 this h = some r → nd_V l w yX6_whole cX6_whole 2 (some .int) 4 93 (.inl (some (vi r.1)), r.2) h 5 [(0, vr (some this))] []) : ∀ (n : Nat) (this : Nat) (x1 : Int32) (k_this : nd_Kd this = 5) (h : Hp), fX6_whole_17 F d k_5 n this x1 h = some r → nd_V l w yX6_whole cX6_whole 2 (some .int) 4 93 (.inl (some (vi r.1)), r.2) h 17 [(0, vr (some this)), (1, vi x1)] [] := by
  intro n
  induction n with
  | zero => intro _ _ _ _ hf; cases hf
  | succ n ih =>
    intro this x1 k_this h hf
    unfold fX6_whole_17 at hf
    refine nd_iload_n (j := 1) dX6_whole_17 rfl rfl ?_
    refine nd_if_lt (tgt := 37) dX6_whole_18 (by decide) (fun c1 => ?_) (fun c1 => ?_)
    · replace hf := ifp c1 hf
      exact nd_loc [0, 1] rfl (tX6_whole_37 l w hfl F d r k_5 hk_5 _ _ k_this _ hf)
    · replace hf := ifn c1 hf
      refine nd_aload_n (j := 0) dX6_whole_21 rfl rfl ?_
      refine nd_getI (k := 5) dX6_whole_22 k_this rfl (Nat.le_of_ble_eq_true rfl) (nd_flO q1345) rfl ?_
      refine nd_if_le (tgt := 37) dX6_whole_25 (by decide) (fun c2 => ?_) (fun c2 => ?_)
      · replace hf := ifp c2 hf
        exact nd_loc [0, 1] rfl (tX6_whole_37 l w hfl F d r k_5 hk_5 _ _ k_this _ hf)
      · replace hf := ifn c2 hf
        refine nd_aload_n (j := 0) dX6_whole_28 rfl rfl ?_
        refine nd_iload_n (j := 1) dX6_whole_29 rfl rfl ?_
        replace hf := caE hf
        obtain ⟨v4, h3, e_h3, hf⟩ := hf
        refine nd_Vi [] (tX6_end l w hfl F d k_this e_h3) rfl dX6_whole_30 mw_X6_end (Or.inl q1586) k_this rfl q1588 qs42 (by omega) (by omega) (Nat.le_of_ble_eq_true rfl) ?_
        refine nd_istore_n [(1, vi v4), (0, vr (some this))] dX6_whole_33 rfl (Nat.le_of_ble_eq_true rfl) rfl ?_
        refine nd_goto (tgt := 17) dX6_whole_34 (by decide) ?_
        exact nd_loc [1, 0] rfl (ih _ _ k_this _ hf)
set_option maxHeartbeats 4000000 in
theorem tX6_whole_5 (l : Launch) (w : Wd) (hfl : l.stackTraces = false) (F d : Nat) (r : Int32 × Hp) : ∀ (n : Nat) (this : Nat) (k_this : nd_Kd this = 5) (h : Hp), fX6_whole_5 F d n this h = some r → nd_V l w yX6_whole cX6_whole 2 (some .int) 4 93 (.inl (some (vi r.1)), r.2) h 5 [(0, vr (some this))] [] := by
  intro n
  induction n with
  | zero => intro _ _ _ hf; cases hf
  | succ n ih =>
    intro this k_this h hf
    unfold fX6_whole_5 at hf
    refine nd_aload_n (j := 0) dX6_whole_5 rfl rfl ?_
    refine nd_getI (k := 4) dX6_whole_6 k_this rfl (Nat.le_of_ble_eq_true rfl) (nd_flO q1344) rfl ?_
    refine nd_if_ne (tgt := 53) dX6_whole_9 (by decide) (fun c1 => ?_) (fun c1 => ?_)
    · replace hf := ifn c1 hf
      refine nd_iconst (v := (-1)) dX6_whole_53 (by decide) ?_
      cases hf
      exact nd_iret (v := (-1)) dX6_whole_54
    · replace hf := ifp c1 hf
      refine nd_aload_n (j := 0) dX6_whole_12 rfl rfl ?_
      replace hf := caE hf
      obtain ⟨v3, h2, e_h2, hf⟩ := hf
      refine nd_Vi [] (tX6_begin l w hfl F d k_this e_h2) rfl dX6_whole_13 mw_X6_begin (Or.inl q1557) k_this rfl q1559 qs35 (by omega) (by omega) (Nat.le_of_ble_eq_true rfl) ?_
      refine nd_istore_n [(1, vi v3), (0, vr (some this))] dX6_whole_16 rfl (Nat.le_of_ble_eq_true rfl) rfl ?_
      exact nd_loc [1, 0] rfl (tX6_whole_17 l w hfl F d r (fX6_whole_5 F d n) ih F _ _ k_this _ hf)
set_option maxHeartbeats 4000000 in
theorem tX6_whole (l : Launch) (w : Wd) (hfl : l.stackTraces = false) (F d : Nat) {this : Nat} (k_this : nd_Kd this = 5) {h : Hp} {r : Int32 × Hp} (hf : fX6_whole F d this h = some r) : nd_C l w yX6_whole cX6_whole 2 (some .int) 4 93 [vr (some this)] h (.inl (some (vi r.1)), r.2) := by
  refine nd_start (as := [vr (some this)]) hfl (by decide) (Nat.le_of_ble_eq_true rfl) ?_
  unfold fX6_whole at hf
  refine nd_eqL (L' := [(0, vr (some this))]) rfl ?_
  refine nd_aload_n (j := 0) dX6_whole_0 rfl rfl ?_
  refine nd_iconst (v := 0) dX6_whole_1 (by decide) ?_
  refine nd_putN (k := 5) dX6_whole_2 k_this rfl (Nat.le_of_ble_eq_true rfl) (nd_flO q1345) rfl rfl rfl ?_
  replace hf := bnE hf
  obtain ⟨h1, e_h1, hf⟩ := hf
  refine nd_hp e_h1 ?_
  exact nd_loc [0] rfl (tX6_whole_5 l w hfl F d r F _ k_this _ hf)
def fX6_definition_85 (F d : Nat) (this : Nat) (x1 : Int32) (s0 : Int32) (h : Hp) : Option (Hp) :=
  if s0 < 0 then
  (some h)
  else
  (ca (fX6_need F d this 59 h) fun v3 h2 => (
  if v3 = 0 then
  (some h2)
  else
  (nn (gP h2 609 this) fun a6 => (
  ck (inb x1 (nd_Ln a6)) (
  bn (sA h2 a6 (Int32.toNatClampNeg x1) s0) fun h8 => (
  some h8))))))
def fX6_definition_50 (F d : Nat) (this : Nat) (x1 : Int32) (h : Hp) : Option (Hp) :=
  if (gI h 604 this) ≤ 0 then
  (bn (sI h 603 this ((gI h 603 this) + 1)) fun h2 => (
  ca (fX6_need F d this 61 h2) fun v4 h3 => (
  if v4 = 0 then
  (fX6_definition_85 F d this x1 (-1) h3)
  else
  (ca (fX6_whole F d this h3) fun v7 h6 => (
  fX6_definition_85 F d this x1 v7 h6)))))
  else
  (some h)
def fX6_definition (F d : Nat) (this : Nat) (h : Hp) : Option (Hp) :=
  ca (fX6_look F d this h) fun v2 h1 => (
  bn (v2 - 65) fun v3 => (
  ca (fX6_in F d v3 0 25 h1) fun v5 h4 => (
  if v5 = 0 then
  (ca (fX6_stop F d this 1 (gI h4 603 this) h4) fun v14 h13 => (
  fX6_definition_50 F d this v3 h13))
  else
  (nn (gP h4 609 this) fun a8 => (
  ck (inb v3 (nd_Ln a8)) (
  if (gA h4 a8 (Int32.toNatClampNeg v3)) < 0 then
  (fX6_definition_50 F d this v3 h4)
  else
  (ca (fX6_stop F d this 2 (gI h4 603 this) h4) fun v12 h11 => (
  fX6_definition_50 F d this v3 h11))))))))
theorem mw_X6_definition : nd_MW yX6_definition cX6_definition 3 none 0 := ⟨q1537, q91, by decide, by decide, by decide +kernel⟩
set_option maxHeartbeats 4000000 in
theorem tX6_definition_85 (l : Launch) (w : Wd) (hfl : l.stackTraces = false) (F d : Nat) (r : Hp) (this : Nat) (x1 : Int32) (s0 : Int32) (k_this : nd_Kd this = 5) (h : Hp) (hf : fX6_definition_85 F d this x1 s0 h = some r) : nd_V l w yX6_definition cX6_definition 3 none 5 114 (.inl none, r) h 85 [(0, vr (some this)), (1, vi x1)] [vi s0] := by
  unfold fX6_definition_85 at hf
  refine nd_istore_n [(2, vi s0), (0, vr (some this)), (1, vi x1)] dX6_definition_85 rfl (Nat.le_of_ble_eq_true rfl) rfl ?_
  refine nd_iload_n (j := 0) dX6_definition_86 rfl rfl ?_
  refine nd_if_lt (tgt := 106) dX6_definition_87 (by decide) (fun c1 => ?_) (fun c1 => ?_)
  · replace hf := ifp c1 hf
    cases hf
    exact nd_vret dX6_definition_106
  · replace hf := ifn c1 hf
    refine nd_aload_n (j := 1) dX6_definition_90 rfl rfl ?_
    refine nd_bipush (v := 59) dX6_definition_91 (by decide) ?_
    replace hf := caE hf
    obtain ⟨v3, h2, e_h2, hf⟩ := hf
    refine nd_Vi [] (tX6_need l w hfl F d k_this e_h2) rfl dX6_definition_93 mw_X6_need (Or.inl q1549) k_this rfl q1551 qs33 (by omega) (by omega) (Nat.le_of_ble_eq_true rfl) ?_
    refine nd_if_eq (tgt := 106) dX6_definition_96 (by decide) (fun c4 => ?_) (fun c4 => ?_)
    · replace hf := ifp c4 hf
      cases hf
      exact nd_vret dX6_definition_106
    · replace hf := ifn c4 hf
      refine nd_aload_n (j := 1) dX6_definition_99 rfl rfl ?_
      refine nd_getP (k := 9) dX6_definition_100 k_this rfl (Nat.le_of_ble_eq_true rfl) (nd_flO q1349) rfl (fun ok5 => ?_)
      replace hf := nnE hf
      obtain ⟨a6, e_a6, hf⟩ := hf
      refine nd_topr e_a6.symm ?_
      have k_a6 : nd_Kd a6 = 20 := nd_c1 (ok5 a6 e_a6)
      refine nd_iload_n (j := 2) dX6_definition_103 rfl rfl ?_
      refine nd_iload_n (j := 0) dX6_definition_104 rfl rfl ?_
      replace hf := ckE hf
      obtain ⟨c7, hf⟩ := hf
      refine nd_iast dX6_definition_105 k_a6 c7 ?_
      replace hf := bnE hf
      obtain ⟨h8, e_h8, hf⟩ := hf
      refine nd_hp e_h8 ?_
      cases hf
      exact nd_vret dX6_definition_106
set_option maxHeartbeats 4000000 in
theorem tX6_definition_50 (l : Launch) (w : Wd) (hfl : l.stackTraces = false) (F d : Nat) (r : Hp) (this : Nat) (x1 : Int32) (k_this : nd_Kd this = 5) (h : Hp) (hf : fX6_definition_50 F d this x1 h = some r) : nd_V l w yX6_definition cX6_definition 3 none 5 114 (.inl none, r) h 50 [(0, vr (some this)), (1, vi x1)] [] := by
  unfold fX6_definition_50 at hf
  refine nd_aload_n (j := 0) dX6_definition_50 rfl rfl ?_
  refine nd_getI (k := 4) dX6_definition_51 k_this rfl (Nat.le_of_ble_eq_true rfl) (nd_flO q1344) rfl ?_
  refine nd_if_le (tgt := 58) dX6_definition_54 (by decide) (fun c1 => ?_) (fun c1 => ?_)
  · replace hf := ifp c1 hf
    refine nd_aload_n (j := 0) dX6_definition_58 rfl rfl ?_
    refine nd_dup dX6_definition_59 rfl ?_
    refine nd_getI (k := 3) dX6_definition_60 k_this rfl (Nat.le_of_ble_eq_true rfl) (nd_flO q1343) rfl ?_
    refine nd_iconst (v := 1) dX6_definition_63 (by decide) ?_
    refine nd_iadd dX6_definition_64 ?_
    refine nd_putN (k := 3) dX6_definition_65 k_this rfl (Nat.le_of_ble_eq_true rfl) (nd_flO q1343) rfl rfl rfl ?_
    replace hf := bnE hf
    obtain ⟨h2, e_h2, hf⟩ := hf
    refine nd_hp e_h2 ?_
    refine nd_aload_n (j := 0) dX6_definition_68 rfl rfl ?_
    refine nd_bipush (v := 61) dX6_definition_69 (by decide) ?_
    replace hf := caE hf
    obtain ⟨v4, h3, e_h3, hf⟩ := hf
    refine nd_Vi [] (tX6_need l w hfl F d k_this e_h3) rfl dX6_definition_71 mw_X6_need (Or.inl q1549) k_this rfl q1551 qs33 (by omega) (by omega) (Nat.le_of_ble_eq_true rfl) ?_
    refine nd_if_eq (tgt := 84) dX6_definition_74 (by decide) (fun c5 => ?_) (fun c5 => ?_)
    · replace hf := ifp c5 hf
      refine nd_iconst (v := (-1)) dX6_definition_84 (by decide) ?_
      exact nd_loc [0, 1] rfl (tX6_definition_85 l w hfl F d r _ _ _ k_this _ hf)
    · replace hf := ifn c5 hf
      refine nd_aload_n (j := 0) dX6_definition_77 rfl rfl ?_
      replace hf := caE hf
      obtain ⟨v7, h6, e_h6, hf⟩ := hf
      refine nd_Vi [] (tX6_whole l w hfl F d k_this e_h6) rfl dX6_definition_78 mw_X6_whole (Or.inl q1553) k_this rfl q1555 qs34 (by omega) (by omega) (Nat.le_of_ble_eq_true rfl) ?_
      refine nd_goto (tgt := 85) dX6_definition_81 (by decide) ?_
      exact nd_loc [0, 1] rfl (tX6_definition_85 l w hfl F d r _ _ _ k_this _ hf)
  · replace hf := ifn c1 hf
    cases hf
    exact nd_vret dX6_definition_57
set_option maxHeartbeats 4000000 in
theorem tX6_definition (l : Launch) (w : Wd) (hfl : l.stackTraces = false) (F d : Nat) {this : Nat} (k_this : nd_Kd this = 5) {h : Hp} {r : Hp} (hf : fX6_definition F d this h = some r) : nd_C l w yX6_definition cX6_definition 3 none 5 114 [vr (some this)] h (.inl none, r) := by
  refine nd_start (as := [vr (some this)]) hfl (by decide) (Nat.le_of_ble_eq_true rfl) ?_
  unfold fX6_definition at hf
  refine nd_eqL (L' := [(0, vr (some this))]) rfl ?_
  refine nd_aload_n (j := 0) dX6_definition_0 rfl rfl ?_
  replace hf := caE hf
  obtain ⟨v2, h1, e_h1, hf⟩ := hf
  refine nd_Vi [] (tX6_look l w hfl F d k_this e_h1) rfl dX6_definition_1 mw_X6_look (Or.inl q1538) k_this rfl q1540 qs31 (by omega) (by omega) (Nat.le_of_ble_eq_true rfl) ?_
  refine nd_bipush (v := 65) dX6_definition_4 (by decide) ?_
  refine nd_isub dX6_definition_6 ?_
  replace hf := bnE hf
  obtain ⟨v3, e_v3, hf⟩ := hf
  refine nd_top e_v3 ?_
  refine nd_istore_n [(1, vi v3), (0, vr (some this))] dX6_definition_7 rfl (Nat.le_of_ble_eq_true rfl) rfl ?_
  refine nd_iload_n (j := 0) dX6_definition_8 rfl rfl ?_
  refine nd_iconst (v := 0) dX6_definition_9 (by decide) ?_
  refine nd_bipush (v := 25) dX6_definition_10 (by decide) ?_
  replace hf := caE hf
  obtain ⟨v5, h4, e_h4, hf⟩ := hf
  refine nd_Si [] (tX6_in l w hfl F d e_h4) rfl dX6_definition_12 mw_X6_in (Or.inl q1542) q1543 (by omega) (by omega) (Nat.le_of_ble_eq_true rfl) ?_
  refine nd_if_ne (tgt := 31) dX6_definition_15 (by decide) (fun c6 => ?_) (fun c6 => ?_)
  · replace hf := ifn c6 hf
    refine nd_aload_n (j := 1) dX6_definition_31 rfl rfl ?_
    refine nd_getP (k := 9) dX6_definition_32 k_this rfl (Nat.le_of_ble_eq_true rfl) (nd_flO q1349) rfl (fun ok7 => ?_)
    replace hf := nnE hf
    obtain ⟨a8, e_a8, hf⟩ := hf
    refine nd_topr e_a8.symm ?_
    have k_a8 : nd_Kd a8 = 20 := nd_c1 (ok7 a8 e_a8)
    refine nd_iload_n (j := 0) dX6_definition_35 rfl rfl ?_
    replace hf := ckE hf
    obtain ⟨c9, hf⟩ := hf
    refine nd_iald dX6_definition_36 k_a8 c9 ?_
    refine nd_if_lt (tgt := 50) dX6_definition_37 (by decide) (fun c10 => ?_) (fun c10 => ?_)
    · replace hf := ifp c10 hf
      exact nd_loc [1, 0] rfl (tX6_definition_50 l w hfl F d r _ _ k_this _ hf)
    · replace hf := ifn c10 hf
      refine nd_aload_n (j := 1) dX6_definition_40 rfl rfl ?_
      refine nd_iconst (v := 2) dX6_definition_41 (by decide) ?_
      refine nd_aload_n (j := 1) dX6_definition_42 rfl rfl ?_
      refine nd_getI (k := 3) dX6_definition_43 k_this rfl (Nat.le_of_ble_eq_true rfl) (nd_flO q1343) rfl ?_
      replace hf := caE hf
      obtain ⟨v12, h11, e_h11, hf⟩ := hf
      refine nd_Vi [] (tX6_stop l w hfl F d k_this e_h11) rfl dX6_definition_46 mw_X6_stop (Or.inl q1545) k_this rfl q1547 qs32 (by omega) (by omega) (Nat.le_of_ble_eq_true rfl) ?_
      refine nd_pop dX6_definition_49 rfl ?_
      exact nd_loc [1, 0] rfl (tX6_definition_50 l w hfl F d r _ _ k_this _ hf)
  · replace hf := ifp c6 hf
    refine nd_aload_n (j := 1) dX6_definition_18 rfl rfl ?_
    refine nd_iconst (v := 1) dX6_definition_19 (by decide) ?_
    refine nd_aload_n (j := 1) dX6_definition_20 rfl rfl ?_
    refine nd_getI (k := 3) dX6_definition_21 k_this rfl (Nat.le_of_ble_eq_true rfl) (nd_flO q1343) rfl ?_
    replace hf := caE hf
    obtain ⟨v14, h13, e_h13, hf⟩ := hf
    refine nd_Vi [] (tX6_stop l w hfl F d k_this e_h13) rfl dX6_definition_24 mw_X6_stop (Or.inl q1545) k_this rfl q1547 qs32 (by omega) (by omega) (Nat.le_of_ble_eq_true rfl) ?_
    refine nd_pop dX6_definition_27 rfl ?_
    refine nd_goto (tgt := 50) dX6_definition_28 (by decide) ?_
    exact nd_loc [1, 0] rfl (tX6_definition_50 l w hfl F d r _ _ k_this _ hf)
def fX6_compile_80 (F d : Nat) (this : Nat) (s0 : Nat) (s1 : Int32) (h : Hp) : Option (Int32 × Hp) :=
  ck (isB s1) (
  bn (sI h 601 s0 s1) fun h1 => (
  some ((gI h1 604 this), h1)))
def fX6_compile_67 (F d : Nat) (this : Nat) (h : Hp) : Option (Int32 × Hp) :=
  if (gI h 604 this) = 0 then
  (fX6_compile_80 F d this this 1 h)
  else
  (fX6_compile_80 F d this this 0 h)
def fX6_compile_45 (F d : Nat) : Nat → Nat → Hp → Option (Int32 × Hp)
  | 0, _, _ => none
  | n + 1, this, h =>
    cv (fX6_definition F d this h) fun h1 => (
    if (gI h1 604 this) = 0 then
    (if (gI h1 603 this) < (gI h1 602 this) then
    (fX6_compile_45 F d n this h1)
    else
    (fX6_compile_67 F d this h1))
    else
    (fX6_compile_67 F d this h1))
def fX6_compile_26 (F d : Nat) : Nat → Nat → Int32 → Hp → Option (Int32 × Hp)
  | 0, _, _, _ => none
  | n + 1, this, x1, h =>
    if 26 ≤ x1 then
    (fX6_compile_45 F d F this h)
    else
    (nn (gP h 609 this) fun a3 => (
    ck (inb x1 (nd_Ln a3)) (
    bn (sA h a3 (Int32.toNatClampNeg x1) (-1)) fun h5 => (
    bn (x1 + 1) fun v6 => (
    fX6_compile_26 F d n this v6 h5)))))
def fX6_compile (F d : Nat) (this : Nat) (h : Hp) : Option (Int32 × Hp) :=
  bn (sI h 600 this 0) fun h1 => (
  cv (fX6_leave F d this h1) fun h2 => (
  bn (sI h2 610 this 0) fun h4 => (
  bn (sI h4 603 this 0) fun h5 => (
  bn (sI h5 604 this 0) fun h6 => (
  fX6_compile_26 F d F this 0 h6)))))
theorem mw_X6_compile : nd_MW yX6_compile cX6_compile 2 (some .int) 0 := ⟨q1533, q91, by decide, by decide, by decide +kernel⟩
set_option maxHeartbeats 4000000 in
theorem tX6_compile_80 (l : Launch) (w : Wd) (hfl : l.stackTraces = false) (F d : Nat) (r : Int32 × Hp) (this : Nat) (s0 : Nat) (s1 : Int32) (k_this : nd_Kd this = 5) (k_s0 : nd_Kd s0 = 5) (h : Hp) (hf : fX6_compile_80 F d this s0 s1 h = some r) : nd_V l w yX6_compile cX6_compile 2 (some .int) 6 136 (.inl (some (vi r.1)), r.2) h 80 [(0, vr (some this))] [vi s1, vr (some s0)] := by
  unfold fX6_compile_80 at hf
  replace hf := ckE hf
  obtain ⟨c2, hf⟩ := hf
  refine nd_putZ (k := 1) c2 dX6_compile_80 k_s0 rfl (Nat.le_of_ble_eq_true rfl) (nd_flO q1341) rfl rfl rfl ?_
  replace hf := bnE hf
  obtain ⟨h1, e_h1, hf⟩ := hf
  refine nd_hp e_h1 ?_
  refine nd_aload_n (j := 0) dX6_compile_83 rfl rfl ?_
  refine nd_getI (k := 4) dX6_compile_84 k_this rfl (Nat.le_of_ble_eq_true rfl) (nd_flO q1344) rfl ?_
  cases hf
  exact nd_iret (v := (gI h1 604 this)) dX6_compile_87
set_option maxHeartbeats 4000000 in
theorem tX6_compile_67 (l : Launch) (w : Wd) (hfl : l.stackTraces = false) (F d : Nat) (r : Int32 × Hp) (this : Nat) (k_this : nd_Kd this = 5) (h : Hp) (hf : fX6_compile_67 F d this h = some r) : nd_V l w yX6_compile cX6_compile 2 (some .int) 6 136 (.inl (some (vi r.1)), r.2) h 67 [(0, vr (some this))] [] := by
  unfold fX6_compile_67 at hf
  refine nd_aload_n (j := 0) dX6_compile_67 rfl rfl ?_
  refine nd_aload_n (j := 0) dX6_compile_68 rfl rfl ?_
  refine nd_getI (k := 4) dX6_compile_69 k_this rfl (Nat.le_of_ble_eq_true rfl) (nd_flO q1344) rfl ?_
  refine nd_if_ne (tgt := 79) dX6_compile_72 (by decide) (fun c1 => ?_) (fun c1 => ?_)
  · replace hf := ifn c1 hf
    refine nd_iconst (v := 0) dX6_compile_79 (by decide) ?_
    exact nd_loc [0] rfl (tX6_compile_80 l w hfl F d r _ _ _ k_this k_this _ hf)
  · replace hf := ifp c1 hf
    refine nd_iconst (v := 1) dX6_compile_75 (by decide) ?_
    refine nd_goto (tgt := 80) dX6_compile_76 (by decide) ?_
    exact nd_loc [0] rfl (tX6_compile_80 l w hfl F d r _ _ _ k_this k_this _ hf)
set_option maxHeartbeats 4000000 in
theorem tX6_compile_45 (l : Launch) (w : Wd) (hfl : l.stackTraces = false) (F d : Nat) (r : Int32 × Hp) : ∀ (n : Nat) (this : Nat) (k_this : nd_Kd this = 5) (h : Hp), fX6_compile_45 F d n this h = some r → nd_V l w yX6_compile cX6_compile 2 (some .int) 6 136 (.inl (some (vi r.1)), r.2) h 45 [(0, vr (some this))] [] := by
  intro n
  induction n with
  | zero => intro _ _ _ hf; cases hf
  | succ n ih =>
    intro this k_this h hf
    unfold fX6_compile_45 at hf
    refine nd_aload_n (j := 0) dX6_compile_45 rfl rfl ?_
    replace hf := cvE hf
    obtain ⟨h1, e_h1, hf⟩ := hf
    refine nd_Vv [] (tX6_definition l w hfl F d k_this e_h1) rfl dX6_compile_46 mw_X6_definition (Or.inl q1534) k_this rfl q1536 qs30 (by omega) (by omega) (Nat.le_of_ble_eq_true rfl) ?_
    refine nd_aload_n (j := 0) dX6_compile_49 rfl rfl ?_
    refine nd_getI (k := 4) dX6_compile_50 k_this rfl (Nat.le_of_ble_eq_true rfl) (nd_flO q1344) rfl ?_
    refine nd_if_ne (tgt := 67) dX6_compile_53 (by decide) (fun c3 => ?_) (fun c3 => ?_)
    · replace hf := ifn c3 hf
      exact nd_loc [0] rfl (tX6_compile_67 l w hfl F d r _ k_this _ hf)
    · replace hf := ifp c3 hf
      refine nd_aload_n (j := 0) dX6_compile_56 rfl rfl ?_
      refine nd_getI (k := 3) dX6_compile_57 k_this rfl (Nat.le_of_ble_eq_true rfl) (nd_flO q1343) rfl ?_
      refine nd_aload_n (j := 0) dX6_compile_60 rfl rfl ?_
      refine nd_getI (k := 2) dX6_compile_61 k_this rfl (Nat.le_of_ble_eq_true rfl) (nd_flO q1342) rfl ?_
      refine nd_icmp_lt (tgt := 45) dX6_compile_64 (by decide) (fun c4 => ?_) (fun c4 => ?_)
      · replace hf := ifp c4 hf
        exact nd_loc [0] rfl (ih _ k_this _ hf)
      · replace hf := ifn c4 hf
        exact nd_loc [0] rfl (tX6_compile_67 l w hfl F d r _ k_this _ hf)
set_option maxHeartbeats 4000000 in
theorem tX6_compile_26 (l : Launch) (w : Wd) (hfl : l.stackTraces = false) (F d : Nat) (r : Int32 × Hp) : ∀ (n : Nat) (this : Nat) (x1 : Int32) (k_this : nd_Kd this = 5) (h : Hp), fX6_compile_26 F d n this x1 h = some r → nd_V l w yX6_compile cX6_compile 2 (some .int) 6 136 (.inl (some (vi r.1)), r.2) h 26 [(0, vr (some this)), (1, vi x1)] [] := by
  intro n
  induction n with
  | zero => intro _ _ _ _ hf; cases hf
  | succ n ih =>
    intro this x1 k_this h hf
    unfold fX6_compile_26 at hf
    refine nd_iload_n (j := 1) dX6_compile_26 rfl rfl ?_
    refine nd_bipush (v := 26) dX6_compile_27 (by decide) ?_
    refine nd_icmp_ge (tgt := 45) dX6_compile_29 (by decide) (fun c1 => ?_) (fun c1 => ?_)
    · replace hf := ifp c1 hf
      exact nd_loc [0] rfl (tX6_compile_45 l w hfl F d r F _ k_this _ hf)
    · replace hf := ifn c1 hf
      refine nd_aload_n (j := 0) dX6_compile_32 rfl rfl ?_
      refine nd_getP (k := 9) dX6_compile_33 k_this rfl (Nat.le_of_ble_eq_true rfl) (nd_flO q1349) rfl (fun ok2 => ?_)
      replace hf := nnE hf
      obtain ⟨a3, e_a3, hf⟩ := hf
      refine nd_topr e_a3.symm ?_
      have k_a3 : nd_Kd a3 = 20 := nd_c1 (ok2 a3 e_a3)
      refine nd_iload_n (j := 1) dX6_compile_36 rfl rfl ?_
      refine nd_iconst (v := (-1)) dX6_compile_37 (by decide) ?_
      replace hf := ckE hf
      obtain ⟨c4, hf⟩ := hf
      refine nd_iast dX6_compile_38 k_a3 c4 ?_
      replace hf := bnE hf
      obtain ⟨h5, e_h5, hf⟩ := hf
      refine nd_hp e_h5 ?_
      replace hf := bnE hf
      obtain ⟨v6, e_v6, hf⟩ := hf
      refine nd_iinc (v := v6) (j := 1) [(1, vi v6), (0, vr (some this))] dX6_compile_39 rfl (by rw [e_v6]; rfl) (Nat.le_of_ble_eq_true rfl) rfl ?_
      refine nd_goto (tgt := 26) dX6_compile_42 (by decide) ?_
      exact nd_loc [1, 0] rfl (ih _ _ k_this _ hf)
set_option maxHeartbeats 4000000 in
theorem tX6_compile (l : Launch) (w : Wd) (hfl : l.stackTraces = false) (F d : Nat) {this : Nat} (k_this : nd_Kd this = 5) {h : Hp} {r : Int32 × Hp} (hf : fX6_compile F d this h = some r) : nd_C l w yX6_compile cX6_compile 2 (some .int) 6 136 [vr (some this)] h (.inl (some (vi r.1)), r.2) := by
  refine nd_start (as := [vr (some this)]) hfl (by decide) (Nat.le_of_ble_eq_true rfl) ?_
  unfold fX6_compile at hf
  refine nd_eqL (L' := [(0, vr (some this))]) rfl ?_
  refine nd_aload_n (j := 0) dX6_compile_0 rfl rfl ?_
  refine nd_iconst (v := 0) dX6_compile_1 (by decide) ?_
  refine nd_putN (k := 0) dX6_compile_2 k_this rfl (Nat.le_of_ble_eq_true rfl) (nd_flO q1340) rfl rfl rfl ?_
  replace hf := bnE hf
  obtain ⟨h1, e_h1, hf⟩ := hf
  refine nd_hp e_h1 ?_
  refine nd_aload_n (j := 0) dX6_compile_5 rfl rfl ?_
  replace hf := cvE hf
  obtain ⟨h2, e_h2, hf⟩ := hf
  refine nd_Vv [] (tX6_leave l w hfl F d k_this e_h2) rfl dX6_compile_6 mw_X6_leave (Or.inl q1336) k_this rfl q1338 qs29 (by omega) (by omega) (Nat.le_of_ble_eq_true rfl) ?_
  refine nd_aload_n (j := 0) dX6_compile_9 rfl rfl ?_
  refine nd_iconst (v := 0) dX6_compile_10 (by decide) ?_
  refine nd_putN (k := 10) dX6_compile_11 k_this rfl (Nat.le_of_ble_eq_true rfl) (nd_flO q1350) rfl rfl rfl ?_
  replace hf := bnE hf
  obtain ⟨h4, e_h4, hf⟩ := hf
  refine nd_hp e_h4 ?_
  refine nd_aload_n (j := 0) dX6_compile_14 rfl rfl ?_
  refine nd_iconst (v := 0) dX6_compile_15 (by decide) ?_
  refine nd_putN (k := 3) dX6_compile_16 k_this rfl (Nat.le_of_ble_eq_true rfl) (nd_flO q1343) rfl rfl rfl ?_
  replace hf := bnE hf
  obtain ⟨h5, e_h5, hf⟩ := hf
  refine nd_hp e_h5 ?_
  refine nd_aload_n (j := 0) dX6_compile_19 rfl rfl ?_
  refine nd_iconst (v := 0) dX6_compile_20 (by decide) ?_
  refine nd_putN (k := 4) dX6_compile_21 k_this rfl (Nat.le_of_ble_eq_true rfl) (nd_flO q1344) rfl rfl rfl ?_
  replace hf := bnE hf
  obtain ⟨h6, e_h6, hf⟩ := hf
  refine nd_hp e_h6 ?_
  refine nd_iconst (v := 0) dX6_compile_24 (by decide) ?_
  refine nd_istore_n [(1, vi 0), (0, vr (some this))] dX6_compile_25 rfl (Nat.le_of_ble_eq_true rfl) rfl ?_
  exact nd_loc [1, 0] rfl (tX6_compile_26 l w hfl F d r F _ _ k_this _ hf)
def fX6_put_33 (F d : Nat) : Nat → Nat → Int64 → Int32 → Hp → Option (Int32 × Hp)
  | 0, _, _, _, _ => none
  | n + 1, this, x1, x4, h =>
    if x4 < 0 then
    (some (1, h))
    else
    (nn (gP h 631 this) fun a3 => (
    ck (inb (gI h 627 this) (nd_Ln a3)) (
    bn (sA h a3 (Int32.toNatClampNeg (gI h 627 this)) (Int64.toInt32 ((x1 >>> (Int32.toInt64 (8 * x4) &&& 63)) &&& 255))) fun h5 => (
    bn (sI h5 627 this ((gI h5 627 this) + 1)) fun h6 => (
    bn (x4 + (-1)) fun v7 => (
    fX6_put_33 F d n this x1 v7 h6))))))
def fX6_put (F d : Nat) (this : Nat) (p0 : Int64) (p1 : Int32) (h : Hp) : Option (Int32 × Hp) :=
  bn (sI h 600 this 0) fun h1 => (
  ca (fX6_in F d p1 1 8 h1) fun v3 h2 => (
  if v3 = 0 then
  (some (0, h2))
  else
  (if ((gI h2 627 this) + p1) ≤ 120 then
  (bn (p1 - 1) fun v6 => (
  fX6_put_33 F d F this p0 v6 h2))
  else
  (some (0, h2)))))
theorem mw_X6_put : nd_MW yX6_put cX6_put 5 (some .boolean) 2 := ⟨q1605, q91, by decide, by decide, by decide +kernel⟩
set_option maxHeartbeats 4000000 in
theorem tX6_put_33 (l : Launch) (w : Wd) (hfl : l.stackTraces = false) (F d : Nat) (r : Int32 × Hp) : ∀ (n : Nat) (this : Nat) (x1 : Int64) (x4 : Int32) (k_this : nd_Kd this = 5) (h : Hp), fX6_put_33 F d n this x1 x4 h = some r → nd_V l w yX6_put cX6_put 5 (some .boolean) 1 22 (.inl (some (vi r.1)), r.2) h 33 [(0, vr (some this)), (1, vl x1), (4, vi x4)] [] := by
  intro n
  induction n with
  | zero => intro _ _ _ _ _ hf; cases hf
  | succ n ih =>
    intro this x1 x4 k_this h hf
    unfold fX6_put_33 at hf
    refine nd_iload (j := 2) dX6_put_33 rfl ?_
    refine nd_if_lt (tgt := 75) dX6_put_35 (by decide) (fun c1 => ?_) (fun c1 => ?_)
    · replace hf := ifp c1 hf
      refine nd_iconst (v := 1) dX6_put_75 (by decide) ?_
      cases hf
      exact nd_zret (v := 1) (by decide) dX6_put_76
    · replace hf := ifn c1 hf
      refine nd_aload_n (j := 0) dX6_put_38 rfl rfl ?_
      refine nd_getP (k := 31) dX6_put_39 k_this rfl (Nat.le_of_ble_eq_true rfl) (nd_flO q1371) rfl (fun ok2 => ?_)
      replace hf := nnE hf
      obtain ⟨a3, e_a3, hf⟩ := hf
      refine nd_topr e_a3.symm ?_
      have k_a3 : nd_Kd a3 = 20 := nd_c1 (ok2 a3 e_a3)
      refine nd_aload_n (j := 0) dX6_put_42 rfl rfl ?_
      refine nd_getI (k := 27) dX6_put_43 k_this rfl (Nat.le_of_ble_eq_true rfl) (nd_flO q1367) rfl ?_
      refine nd_lload_n (j := 1) dX6_put_46 rfl rfl ?_
      refine nd_bipush (v := 8) dX6_put_47 (by decide) ?_
      refine nd_iload (j := 2) dX6_put_49 rfl ?_
      refine nd_imul dX6_put_51 ?_
      refine nd_lshr dX6_put_52 ?_
      refine nd_ldc2 (v := 255) dX6_put_53 q1606 ?_
      refine nd_land dX6_put_56 ?_
      refine nd_l2i dX6_put_57 ?_
      replace hf := ckE hf
      obtain ⟨c4, hf⟩ := hf
      refine nd_iast dX6_put_58 k_a3 c4 ?_
      replace hf := bnE hf
      obtain ⟨h5, e_h5, hf⟩ := hf
      refine nd_hp e_h5 ?_
      refine nd_aload_n (j := 0) dX6_put_59 rfl rfl ?_
      refine nd_dup dX6_put_60 rfl ?_
      refine nd_getI (k := 27) dX6_put_61 k_this rfl (Nat.le_of_ble_eq_true rfl) (nd_flO q1367) rfl ?_
      refine nd_iconst (v := 1) dX6_put_64 (by decide) ?_
      refine nd_iadd dX6_put_65 ?_
      refine nd_putN (k := 27) dX6_put_66 k_this rfl (Nat.le_of_ble_eq_true rfl) (nd_flO q1367) rfl rfl rfl ?_
      replace hf := bnE hf
      obtain ⟨h6, e_h6, hf⟩ := hf
      refine nd_hp e_h6 ?_
      replace hf := bnE hf
      obtain ⟨v7, e_v7, hf⟩ := hf
      refine nd_iinc (v := v7) (j := 2) [(4, vi v7), (0, vr (some this)), (1, vl x1)] dX6_put_69 rfl (by rw [e_v7]; rfl) (Nat.le_of_ble_eq_true rfl) rfl ?_
      refine nd_goto (tgt := 33) dX6_put_72 (by decide) ?_
      exact nd_loc [1, 2, 0] rfl (ih _ _ _ k_this _ hf)
set_option maxHeartbeats 4000000 in
theorem tX6_put (l : Launch) (w : Wd) (hfl : l.stackTraces = false) (F d : Nat) {this : Nat} {p0 : Int64} {p1 : Int32} (k_this : nd_Kd this = 5) {h : Hp} {r : Int32 × Hp} (hf : fX6_put F d this p0 p1 h = some r) : nd_C l w yX6_put cX6_put 5 (some .boolean) 1 22 [vr (some this), vl p0, vi p1] h (.inl (some (vi r.1)), r.2) := by
  refine nd_start (as := [vr (some this), vl p0, vi p1]) hfl (by decide) (Nat.le_of_ble_eq_true rfl) ?_
  unfold fX6_put at hf
  refine nd_eqL (L' := [(0, vr (some this)), (1, vl p0), (3, vi p1)]) rfl ?_
  refine nd_aload_n (j := 0) dX6_put_0 rfl rfl ?_
  refine nd_iconst (v := 0) dX6_put_1 (by decide) ?_
  refine nd_putN (k := 0) dX6_put_2 k_this rfl (Nat.le_of_ble_eq_true rfl) (nd_flO q1340) rfl rfl rfl ?_
  replace hf := bnE hf
  obtain ⟨h1, e_h1, hf⟩ := hf
  refine nd_hp e_h1 ?_
  refine nd_iload_n (j := 2) dX6_put_5 rfl rfl ?_
  refine nd_iconst (v := 1) dX6_put_6 (by decide) ?_
  refine nd_bipush (v := 8) dX6_put_7 (by decide) ?_
  replace hf := caE hf
  obtain ⟨v3, h2, e_h2, hf⟩ := hf
  refine nd_Si [] (tX6_in l w hfl F d e_h2) rfl dX6_put_9 mw_X6_in (Or.inl q1542) q1543 (by omega) (by omega) (Nat.le_of_ble_eq_true rfl) ?_
  refine nd_if_eq (tgt := 26) dX6_put_12 (by decide) (fun c4 => ?_) (fun c4 => ?_)
  · replace hf := ifp c4 hf
    refine nd_iconst (v := 0) dX6_put_26 (by decide) ?_
    cases hf
    exact nd_zret (v := 0) (by decide) dX6_put_27
  · replace hf := ifn c4 hf
    refine nd_aload_n (j := 0) dX6_put_15 rfl rfl ?_
    refine nd_getI (k := 27) dX6_put_16 k_this rfl (Nat.le_of_ble_eq_true rfl) (nd_flO q1367) rfl ?_
    refine nd_iload_n (j := 2) dX6_put_19 rfl rfl ?_
    refine nd_iadd dX6_put_20 ?_
    refine nd_bipush (v := 120) dX6_put_21 (by decide) ?_
    refine nd_icmp_le (tgt := 28) dX6_put_23 (by decide) (fun c5 => ?_) (fun c5 => ?_)
    · replace hf := ifp c5 hf
      refine nd_iload_n (j := 2) dX6_put_28 rfl rfl ?_
      refine nd_iconst (v := 1) dX6_put_29 (by decide) ?_
      refine nd_isub dX6_put_30 ?_
      replace hf := bnE hf
      obtain ⟨v6, e_v6, hf⟩ := hf
      refine nd_top e_v6 ?_
      refine nd_istore [(4, vi v6), (0, vr (some this)), (1, vl p0), (3, vi p1)] dX6_put_31 (Nat.le_of_ble_eq_true rfl) rfl ?_
      exact nd_loc [1, 2, 0] rfl (tX6_put_33 l w hfl F d r F _ _ _ k_this _ hf)
    · replace hf := ifn c5 hf
      refine nd_iconst (v := 0) dX6_put_26 (by decide) ?_
      cases hf
      exact nd_zret (v := 0) (by decide) dX6_put_27
