set_option maxRecDepth 100000
abbrev yL_law : MethodName := x
def fL_law_640 (F d sL : Nat) (sx : Nat → Int32) (k_23 : Nat → Nat → Nat → Int32 → Hp → Option (Int32 × Hp)) (x1 : Nat) (x2 : Nat) (x3 : Nat) (x4 : Int32) (h : Hp) : Option (Int32 × Hp) :=
  bn (x4 + 5) fun v1 => (
  k_23 x1 x2 x3 v1 h)
def fL_law_288 (F d sL : Nat) (sx : Nat → Int32) (k_23 : Nat → Nat → Nat → Int32 → Hp → Option (Int32 × Hp)) (x1 : Nat) (x2 : Nat) (x3 : Nat) (x4 : Int32) (h : Hp) : Option (Int32 × Hp) :=
  fL_law_640 F d sL sx k_23 x1 x2 x3 x4 h
def fL_law_370 (F d sL : Nat) (sx : Nat → Int32) (k_23 : Nat → Nat → Nat → Int32 → Hp → Option (Int32 × Hp)) (x1 : Nat) (x2 : Nat) (x3 : Nat) (x4 : Int32) (h : Hp) : Option (Int32 × Hp) :=
  fL_law_640 F d sL sx k_23 x1 x2 x3 x4 h
def fL_law_451 (F d sL : Nat) (sx : Nat → Int32) (k_23 : Nat → Nat → Nat → Int32 → Hp → Option (Int32 × Hp)) (x1 : Nat) (x2 : Nat) (x3 : Nat) (x4 : Int32) (h : Hp) : Option (Int32 × Hp) :=
  fL_law_640 F d sL sx k_23 x1 x2 x3 x4 h
def fL_law_519 (F d sL : Nat) (sx : Nat → Int32) (k_23 : Nat → Nat → Nat → Int32 → Hp → Option (Int32 × Hp)) (x1 : Nat) (x2 : Nat) (x3 : Nat) (x4 : Int32) (h : Hp) : Option (Int32 × Hp) :=
  fL_law_640 F d sL sx k_23 x1 x2 x3 x4 h
def fL_law_637 (F d sL : Nat) (sx : Nat → Int32) (k_23 : Nat → Nat → Nat → Int32 → Hp → Option (Int32 × Hp)) (x1 : Nat) (x2 : Nat) (x3 : Nat) (x4 : Int32) (h : Hp) : Option (Int32 × Hp) :=
  fL_law_640 F d sL sx k_23 x1 x2 x3 x4 h
def fL_law_23 (F d sL : Nat) (sx : Nat → Int32) : Nat → Nat → Nat → Nat → Int32 → Hp → Option (Int32 × Hp)
  | 0, _, _, _, _, _ => none
  | n + 1, x1, x2, x3, x4, h =>
    if ((Int32.ofNat sL) - 5) < x4 then
    (some (1, h))
    else
    (ck (inb x4 sL) (
    bn ((sx (Int32.toNatClampNeg x4)) &&& 15) fun v3 => (
    if v3 = 0 then
    (ck (inb (x4 + 1) sL) (
    ca (fX1_type F d x1 (UInt32.toInt32 (Int32.toUInt32 (sx (Int32.toNatClampNeg (x4 + 1))) % 65536)) h) fun v7 h6 => (
    ck (inb (x4 + 1) sL) (
    ca (fX6_type F d x2 (UInt32.toInt32 (Int32.toUInt32 (sx (Int32.toNatClampNeg (x4 + 1))) % 65536)) h6) fun v10 h9 => (
    if v7 = v10 then
    (fL_law_640 F d sL sx (fL_law_23 F d sL sx n) x1 x2 x3 x4 h9)
    else
    (some (0, h9)))))))
    else if v3 = 1 then
    (ca (fX1_clear F d x1 h) fun v14 h13 => (
    ca (fX6_clear F d x2 h13) fun v16 h15 => (
    if v14 = v16 then
    (fL_law_640 F d sL sx (fL_law_23 F d sL sx n) x1 x2 x3 x4 h15)
    else
    (some (0, h15)))))
    else if v3 = 2 then
    (ca (fX1_compile F d x1 h) fun v20 h19 => (
    ca (fX6_compile F d x2 h19) fun v22 h21 => (
    if v20 = v22 then
    (fL_law_640 F d sL sx (fL_law_23 F d sL sx n) x1 x2 x3 x4 h21)
    else
    (some (0, h21)))))
    else if v3 = 3 then
    (ck (inb (x4 + 1) sL) (
    ck (inb (x4 + 2) sL) (
    ck (inb (x4 + 3) sL) (
    ca (fX1_put F d x1 (((Int32.toInt64 (sx (Int32.toNatClampNeg (x4 + 1)))) <<< (Int32.toInt64 32 &&& 63)) ||| ((Int32.toInt64 (sx (Int32.toNatClampNeg (x4 + 2)))) &&& 4294967295)) (sx (Int32.toNatClampNeg (x4 + 3))) h) fun v29 h28 => (
    ck (inb (x4 + 1) sL) (
    ck (inb (x4 + 2) sL) (
    ck (inb (x4 + 3) sL) (
    ca (fX6_put F d x2 (((Int32.toInt64 (sx (Int32.toNatClampNeg (x4 + 1)))) <<< (Int32.toInt64 32 &&& 63)) ||| ((Int32.toInt64 (sx (Int32.toNatClampNeg (x4 + 2)))) &&& 4294967295)) (sx (Int32.toNatClampNeg (x4 + 3))) h28) fun v34 h33 => (
    if v29 = v34 then
    (fL_law_640 F d sL sx (fL_law_23 F d sL sx n) x1 x2 x3 x4 h33)
    else
    (some (0, h33)))))))))))
    else if v3 = 4 then
    (ca (fX1_wipe F d x1 h) fun v38 h37 => (
    ca (fX6_wipe F d x2 h37) fun v40 h39 => (
    if v38 = v40 then
    (fL_law_640 F d sL sx (fL_law_23 F d sL sx n) x1 x2 x3 x4 h39)
    else
    (some (0, h39)))))
    else if v3 = 5 then
    (ck (inb (x4 + 1) sL) (
    ca (fX0_at F d x1 (sx (Int32.toNatClampNeg (x4 + 1))) x3 h) fun v45 h44 => (
    ck (inb (x4 + 1) sL) (
    ca (fX6_at F d x2 (sx (Int32.toNatClampNeg (x4 + 1))) h44) fun v48 h47 => (
    ca (fX6_thrown F d x2 h47) fun v50 h49 => (
    if v50 = v45 then
    (if v45 = 0 then
    (ck (inb 0 (nd_Ln x3)) (
    if (lg_cmp (gJ h49 (Int32.toNatClampNeg 0)) (Int32.toInt64 v48)) = 0 then
    (fL_law_288 F d sL sx (fL_law_23 F d sL sx n) x1 x2 x3 x4 h49)
    else
    (some (0, h49))))
    else
    (fL_law_288 F d sL sx (fL_law_23 F d sL sx n) x1 x2 x3 x4 h49))
    else
    (some (0, h49))))))))
    else if v3 = 6 then
    (ck (inb (x4 + 1) sL) (
    ck (inb (x4 + 2) sL) (
    ck (inb (x4 + 3) sL) (
    ca (fX0_transcode F d x1 (UInt32.toInt32 (Int32.toUInt32 (sx (Int32.toNatClampNeg (x4 + 1))) % 65536)) (sx (Int32.toNatClampNeg (x4 + 2))) (sx (Int32.toNatClampNeg (x4 + 3))) x3 h) fun v60 h59 => (
    ck (inb (x4 + 1) sL) (
    ck (inb (x4 + 2) sL) (
    ck (inb (x4 + 3) sL) (
    ca (fX6_transcode F d x2 (UInt32.toInt32 (Int32.toUInt32 (sx (Int32.toNatClampNeg (x4 + 1))) % 65536)) (sx (Int32.toNatClampNeg (x4 + 2))) (sx (Int32.toNatClampNeg (x4 + 3))) h59) fun v65 h64 => (
    ca (fX6_thrown F d x2 h64) fun v67 h66 => (
    if v67 = v60 then
    (if v60 = 0 then
    (ck (inb 0 (nd_Ln x3)) (
    if (lg_cmp (gJ h66 (Int32.toNatClampNeg 0)) (Int32.toInt64 v65)) = 0 then
    (fL_law_370 F d sL sx (fL_law_23 F d sL sx n) x1 x2 x3 x4 h66)
    else
    (some (0, h66))))
    else
    (fL_law_370 F d sL sx (fL_law_23 F d sL sx n) x1 x2 x3 x4 h66))
    else
    (some (0, h66))))))))))))
    else if v3 = 7 then
    (ca (fX1_parts F d x1 h) fun v74 h73 => (
    ca (fX6_parts F d x2 h73) fun v76 h75 => (
    if v74 = v76 then
    (fL_law_640 F d sL sx (fL_law_23 F d sL sx n) x1 x2 x3 x4 h75)
    else
    (some (0, h75)))))
    else if v3 = 8 then
    (ck (inb (x4 + 1) sL) (
    ck (inb (x4 + 2) sL) (
    ca (fX0_part F d x1 (sx (Int32.toNatClampNeg (x4 + 1))) (sx (Int32.toNatClampNeg (x4 + 2))) x3 h) fun v82 h81 => (
    ck (inb (x4 + 1) sL) (
    ck (inb (x4 + 2) sL) (
    ca (fX6_part F d x2 (sx (Int32.toNatClampNeg (x4 + 1))) (sx (Int32.toNatClampNeg (x4 + 2))) h81) fun v86 h85 => (
    ca (fX6_thrown F d x2 h85) fun v88 h87 => (
    if v88 = v82 then
    (if v82 = 0 then
    (ck (inb 0 (nd_Ln x3)) (
    if (lg_cmp (gJ h87 (Int32.toNatClampNeg 0)) (Int32.toInt64 v86)) = 0 then
    (fL_law_451 F d sL sx (fL_law_23 F d sL sx n) x1 x2 x3 x4 h87)
    else
    (some (0, h87))))
    else
    (fL_law_451 F d sL sx (fL_law_23 F d sL sx n) x1 x2 x3 x4 h87))
    else
    (some (0, h87))))))))))
    else if v3 = 9 then
    (ck (inb (x4 + 1) sL) (
    ck (inb (x4 + 2) sL) (
    ca (fX0_octet F d x1 (sx (Int32.toNatClampNeg (x4 + 1))) (sx (Int32.toNatClampNeg (x4 + 2))) x3 h) fun v97 h96 => (
    ck (inb (x4 + 1) sL) (
    ck (inb (x4 + 2) sL) (
    ca (fX6_octet F d x2 (sx (Int32.toNatClampNeg (x4 + 1))) (sx (Int32.toNatClampNeg (x4 + 2))) h96) fun v101 h100 => (
    ca (fX6_thrown F d x2 h100) fun v103 h102 => (
    if v103 = v97 then
    (if v97 = 0 then
    (ck (inb 0 (nd_Ln x3)) (
    if (lg_cmp (gJ h102 (Int32.toNatClampNeg 0)) (Int32.toInt64 v101)) = 0 then
    (fL_law_519 F d sL sx (fL_law_23 F d sL sx n) x1 x2 x3 x4 h102)
    else
    (some (0, h102))))
    else
    (fL_law_519 F d sL sx (fL_law_23 F d sL sx n) x1 x2 x3 x4 h102))
    else
    (some (0, h102))))))))))
    else if v3 = 10 then
    (ck (inb (x4 + 1) sL) (
    ck (inb (x4 + 2) sL) (
    ck (inb (x4 + 3) sL) (
    ck (inb (x4 + 4) sL) (
    ca (fX0_operation F d x1 (sx (Int32.toNatClampNeg (x4 + 1))) (UInt32.toInt32 (Int32.toUInt32 (sx (Int32.toNatClampNeg (x4 + 2))) % 65536)) (sx (Int32.toNatClampNeg (x4 + 3))) (sx (Int32.toNatClampNeg (x4 + 4))) h) fun v114 h113 => (
    ck (inb (x4 + 1) sL) (
    ck (inb (x4 + 2) sL) (
    ck (inb (x4 + 3) sL) (
    ck (inb (x4 + 4) sL) (
    cv (fX6_operation F d x2 (sx (Int32.toNatClampNeg (x4 + 1))) (UInt32.toInt32 (Int32.toUInt32 (sx (Int32.toNatClampNeg (x4 + 2))) % 65536)) (sx (Int32.toNatClampNeg (x4 + 3))) (sx (Int32.toNatClampNeg (x4 + 4))) h113) fun h119 => (
    ca (fX6_thrown F d x2 h119) fun v122 h121 => (
    if v122 = v114 then
    (fL_law_640 F d sL sx (fL_law_23 F d sL sx n) x1 x2 x3 x4 h121)
    else
    (some (0, h121))))))))))))))
    else if v3 = 11 then
    (ca (fX0_serve F d x1 x3 h) fun v126 h125 => (
    ca (fX6_serve F d x2 h125) fun v128 h127 => (
    ca (fX6_thrown F d x2 h127) fun v130 h129 => (
    if v130 = v126 then
    (if v126 = 0 then
    (ck (inb 0 (nd_Ln x3)) (
    if (lg_cmp (gJ h129 (Int32.toNatClampNeg 0)) (Int32.toInt64 v128)) = 0 then
    (fL_law_637 F d sL sx (fL_law_23 F d sL sx n) x1 x2 x3 x4 h129)
    else
    (some (0, h129))))
    else
    (fL_law_637 F d sL sx (fL_law_23 F d sL sx n) x1 x2 x3 x4 h129))
    else
    (some (0, h129))))))
    else 
    (fL_law_640 F d sL sx (fL_law_23 F d sL sx n) x1 x2 x3 x4 h))))
def fL_law (F d sL : Nat) (sx : Nat → Int32)  (h : Hp) : Option (Int32 × Hp) :=
  bn 100 fun n3 => (
  ck (fre h n3 0) (
  bn (nw h n3 12) fun h2 => (
  cv (fX1_init F d n3 h2) fun h4 => (
  bn 3000 fun n8 => (
  ck (fre h4 n8 5) (
  bn (nw h4 n8 59) fun h7 => (
  cv (fX6_init F d n8 h7) fun h9 => (
  bn 320 fun n13 => (
  ck (freA h9 n13 23 1) (
  bn (nw h9 n13 1) fun h12 => (
  fL_law_23 F d sL sx F n3 n8 n13 0 h12)))))))))))
set_option maxHeartbeats 4000000 in
theorem tL_law_640 (l : Launch) (w : Wd) (hfl : l.stackTraces = false) (F d : Nat) (r : Int32 × Hp) (k_23 : Nat → Nat → Nat → Int32 → Hp → Option (Int32 × Hp)) (hk_23 : ∀ (x1 : Nat) (x2 : Nat) (x3 : Nat) (x4 : Int32) (k_x1 : nd_Kd x1 = 0) (k_x2 : nd_Kd x2 = 5) (k_x3 : nd_Kd x3 = 23) (h : Hp), k_23 x1 x2 x3 x4 h = some r → nd_V l w yL_law cL_law 7 (some .boolean) (9 + 8 * d) (216 + 400 * d) (.inl (some (vi r.1)), r.2) h 23 [(0, vr (some 5)), (1, vr (some x1)), (2, vr (some x2)), (3, vr (some x3)), (4, vi x4)] []) (x1 : Nat) (x2 : Nat) (x3 : Nat) (x4 : Int32) (k_x1 : nd_Kd x1 = 0) (k_x2 : nd_Kd x2 = 5) (k_x3 : nd_Kd x3 = 23) (h : Hp) (hf : fL_law_640 F d w.2.2.2.2.2.1 w.2.2.2.2.2.2 k_23 x1 x2 x3 x4 h = some r) : nd_V l w yL_law cL_law 7 (some .boolean) (9 + 8 * d) (216 + 400 * d) (.inl (some (vi r.1)), r.2) h 640 [(0, vr (some 5)), (1, vr (some x1)), (2, vr (some x2)), (3, vr (some x3)), (4, vi x4)] [] := by
  unfold fL_law_640 at hf
  replace hf := bnE hf
  obtain ⟨v1, e_v1, hf⟩ := hf
  refine nd_iinc (v := v1) (j := 4) [(4, vi v1), (0, vr (some 5)), (1, vr (some x1)), (2, vr (some x2)), (3, vr (some x3))] dL_law_640 rfl (by rw [e_v1]; rfl) (Nat.le_of_ble_eq_true rfl) rfl ?_
  refine nd_goto (tgt := 23) dL_law_643 (by decide) ?_
  exact nd_loc [1, 2, 3, 4, 0] rfl (hk_23 _ _ _ _ k_x1 k_x2 k_x3 _ hf)
set_option maxHeartbeats 4000000 in
theorem tL_law_288 (l : Launch) (w : Wd) (hfl : l.stackTraces = false) (F d : Nat) (r : Int32 × Hp) (k_23 : Nat → Nat → Nat → Int32 → Hp → Option (Int32 × Hp)) (hk_23 : ∀ (x1 : Nat) (x2 : Nat) (x3 : Nat) (x4 : Int32) (k_x1 : nd_Kd x1 = 0) (k_x2 : nd_Kd x2 = 5) (k_x3 : nd_Kd x3 = 23) (h : Hp), k_23 x1 x2 x3 x4 h = some r → nd_V l w yL_law cL_law 7 (some .boolean) (9 + 8 * d) (216 + 400 * d) (.inl (some (vi r.1)), r.2) h 23 [(0, vr (some 5)), (1, vr (some x1)), (2, vr (some x2)), (3, vr (some x3)), (4, vi x4)] []) (x1 : Nat) (x2 : Nat) (x3 : Nat) (x4 : Int32) (k_x1 : nd_Kd x1 = 0) (k_x2 : nd_Kd x2 = 5) (k_x3 : nd_Kd x3 = 23) (h : Hp) (hf : fL_law_288 F d w.2.2.2.2.2.1 w.2.2.2.2.2.2 k_23 x1 x2 x3 x4 h = some r) : nd_V l w yL_law cL_law 7 (some .boolean) (9 + 8 * d) (216 + 400 * d) (.inl (some (vi r.1)), r.2) h 288 [(0, vr (some 5)), (1, vr (some x1)), (2, vr (some x2)), (3, vr (some x3)), (4, vi x4)] [] := by
  unfold fL_law_288 at hf
  refine nd_goto (tgt := 640) dL_law_288 (by decide) ?_
  exact nd_loc [0, 1, 2, 3, 4] rfl (tL_law_640 l w hfl F d r k_23 hk_23 _ _ _ _ k_x1 k_x2 k_x3 _ hf)
set_option maxHeartbeats 4000000 in
theorem tL_law_370 (l : Launch) (w : Wd) (hfl : l.stackTraces = false) (F d : Nat) (r : Int32 × Hp) (k_23 : Nat → Nat → Nat → Int32 → Hp → Option (Int32 × Hp)) (hk_23 : ∀ (x1 : Nat) (x2 : Nat) (x3 : Nat) (x4 : Int32) (k_x1 : nd_Kd x1 = 0) (k_x2 : nd_Kd x2 = 5) (k_x3 : nd_Kd x3 = 23) (h : Hp), k_23 x1 x2 x3 x4 h = some r → nd_V l w yL_law cL_law 7 (some .boolean) (9 + 8 * d) (216 + 400 * d) (.inl (some (vi r.1)), r.2) h 23 [(0, vr (some 5)), (1, vr (some x1)), (2, vr (some x2)), (3, vr (some x3)), (4, vi x4)] []) (x1 : Nat) (x2 : Nat) (x3 : Nat) (x4 : Int32) (k_x1 : nd_Kd x1 = 0) (k_x2 : nd_Kd x2 = 5) (k_x3 : nd_Kd x3 = 23) (h : Hp) (hf : fL_law_370 F d w.2.2.2.2.2.1 w.2.2.2.2.2.2 k_23 x1 x2 x3 x4 h = some r) : nd_V l w yL_law cL_law 7 (some .boolean) (9 + 8 * d) (216 + 400 * d) (.inl (some (vi r.1)), r.2) h 370 [(0, vr (some 5)), (1, vr (some x1)), (2, vr (some x2)), (3, vr (some x3)), (4, vi x4)] [] := by
  unfold fL_law_370 at hf
  refine nd_goto (tgt := 640) dL_law_370 (by decide) ?_
  exact nd_loc [0, 1, 2, 3, 4] rfl (tL_law_640 l w hfl F d r k_23 hk_23 _ _ _ _ k_x1 k_x2 k_x3 _ hf)
set_option maxHeartbeats 4000000 in
theorem tL_law_451 (l : Launch) (w : Wd) (hfl : l.stackTraces = false) (F d : Nat) (r : Int32 × Hp) (k_23 : Nat → Nat → Nat → Int32 → Hp → Option (Int32 × Hp)) (hk_23 : ∀ (x1 : Nat) (x2 : Nat) (x3 : Nat) (x4 : Int32) (k_x1 : nd_Kd x1 = 0) (k_x2 : nd_Kd x2 = 5) (k_x3 : nd_Kd x3 = 23) (h : Hp), k_23 x1 x2 x3 x4 h = some r → nd_V l w yL_law cL_law 7 (some .boolean) (9 + 8 * d) (216 + 400 * d) (.inl (some (vi r.1)), r.2) h 23 [(0, vr (some 5)), (1, vr (some x1)), (2, vr (some x2)), (3, vr (some x3)), (4, vi x4)] []) (x1 : Nat) (x2 : Nat) (x3 : Nat) (x4 : Int32) (k_x1 : nd_Kd x1 = 0) (k_x2 : nd_Kd x2 = 5) (k_x3 : nd_Kd x3 = 23) (h : Hp) (hf : fL_law_451 F d w.2.2.2.2.2.1 w.2.2.2.2.2.2 k_23 x1 x2 x3 x4 h = some r) : nd_V l w yL_law cL_law 7 (some .boolean) (9 + 8 * d) (216 + 400 * d) (.inl (some (vi r.1)), r.2) h 451 [(0, vr (some 5)), (1, vr (some x1)), (2, vr (some x2)), (3, vr (some x3)), (4, vi x4)] [] := by
  unfold fL_law_451 at hf
  refine nd_goto (tgt := 640) dL_law_451 (by decide) ?_
  exact nd_loc [0, 1, 2, 3, 4] rfl (tL_law_640 l w hfl F d r k_23 hk_23 _ _ _ _ k_x1 k_x2 k_x3 _ hf)
set_option maxHeartbeats 4000000 in
theorem tL_law_519 (l : Launch) (w : Wd) (hfl : l.stackTraces = false) (F d : Nat) (r : Int32 × Hp) (k_23 : Nat → Nat → Nat → Int32 → Hp → Option (Int32 × Hp)) (hk_23 : ∀ (x1 : Nat) (x2 : Nat) (x3 : Nat) (x4 : Int32) (k_x1 : nd_Kd x1 = 0) (k_x2 : nd_Kd x2 = 5) (k_x3 : nd_Kd x3 = 23) (h : Hp), k_23 x1 x2 x3 x4 h = some r → nd_V l w yL_law cL_law 7 (some .boolean) (9 + 8 * d) (216 + 400 * d) (.inl (some (vi r.1)), r.2) h 23 [(0, vr (some 5)), (1, vr (some x1)), (2, vr (some x2)), (3, vr (some x3)), (4, vi x4)] []) (x1 : Nat) (x2 : Nat) (x3 : Nat) (x4 : Int32) (k_x1 : nd_Kd x1 = 0) (k_x2 : nd_Kd x2 = 5) (k_x3 : nd_Kd x3 = 23) (h : Hp) (hf : fL_law_519 F d w.2.2.2.2.2.1 w.2.2.2.2.2.2 k_23 x1 x2 x3 x4 h = some r) : nd_V l w yL_law cL_law 7 (some .boolean) (9 + 8 * d) (216 + 400 * d) (.inl (some (vi r.1)), r.2) h 519 [(0, vr (some 5)), (1, vr (some x1)), (2, vr (some x2)), (3, vr (some x3)), (4, vi x4)] [] := by
  unfold fL_law_519 at hf
  refine nd_goto (tgt := 640) dL_law_519 (by decide) ?_
  exact nd_loc [0, 1, 2, 3, 4] rfl (tL_law_640 l w hfl F d r k_23 hk_23 _ _ _ _ k_x1 k_x2 k_x3 _ hf)
set_option maxHeartbeats 4000000 in
theorem tL_law_637 (l : Launch) (w : Wd) (hfl : l.stackTraces = false) (F d : Nat) (r : Int32 × Hp) (k_23 : Nat → Nat → Nat → Int32 → Hp → Option (Int32 × Hp)) (hk_23 : ∀ (x1 : Nat) (x2 : Nat) (x3 : Nat) (x4 : Int32) (k_x1 : nd_Kd x1 = 0) (k_x2 : nd_Kd x2 = 5) (k_x3 : nd_Kd x3 = 23) (h : Hp), k_23 x1 x2 x3 x4 h = some r → nd_V l w yL_law cL_law 7 (some .boolean) (9 + 8 * d) (216 + 400 * d) (.inl (some (vi r.1)), r.2) h 23 [(0, vr (some 5)), (1, vr (some x1)), (2, vr (some x2)), (3, vr (some x3)), (4, vi x4)] []) (x1 : Nat) (x2 : Nat) (x3 : Nat) (x4 : Int32) (k_x1 : nd_Kd x1 = 0) (k_x2 : nd_Kd x2 = 5) (k_x3 : nd_Kd x3 = 23) (h : Hp) (hf : fL_law_637 F d w.2.2.2.2.2.1 w.2.2.2.2.2.2 k_23 x1 x2 x3 x4 h = some r) : nd_V l w yL_law cL_law 7 (some .boolean) (9 + 8 * d) (216 + 400 * d) (.inl (some (vi r.1)), r.2) h 637 [(0, vr (some 5)), (1, vr (some x1)), (2, vr (some x2)), (3, vr (some x3)), (4, vi x4)] [] := by
  unfold fL_law_637 at hf
  refine nd_goto (tgt := 640) dL_law_637 (by decide) ?_
  exact nd_loc [0, 1, 2, 3, 4] rfl (tL_law_640 l w hfl F d r k_23 hk_23 _ _ _ _ k_x1 k_x2 k_x3 _ hf)
set_option maxHeartbeats 4000000 in
theorem tL_law_23 (l : Launch) (w : Wd) (hfl : l.stackTraces = false) (F d : Nat) (r : Int32 × Hp) : ∀ (n : Nat) (x1 : Nat) (x2 : Nat) (x3 : Nat) (x4 : Int32) (k_x1 : nd_Kd x1 = 0) (k_x2 : nd_Kd x2 = 5) (k_x3 : nd_Kd x3 = 23) (h : Hp), fL_law_23 F d w.2.2.2.2.2.1 w.2.2.2.2.2.2 n x1 x2 x3 x4 h = some r → nd_V l w yL_law cL_law 7 (some .boolean) (9 + 8 * d) (216 + 400 * d) (.inl (some (vi r.1)), r.2) h 23 [(0, vr (some 5)), (1, vr (some x1)), (2, vr (some x2)), (3, vr (some x3)), (4, vi x4)] [] := by
  intro n
  induction n with
  | zero => intro _ _ _ _ _ _ _ _ hf; cases hf
  | succ n ih =>
    intro x1 x2 x3 x4 k_x1 k_x2 k_x3 h hf
    unfold fL_law_23 at hf
    refine nd_iload (j := 4) dL_law_23 rfl ?_
    refine nd_aload_n (j := 0) dL_law_25 rfl rfl ?_
    refine nd_slen dL_law_26 ?_
    refine nd_iconst (v := 5) dL_law_27 (by decide) ?_
    refine nd_isub dL_law_28 ?_
    refine nd_icmp_gt (tgt := 646) dL_law_29 (by decide) (fun c1 => ?_) (fun c1 => ?_)
    · replace hf := ifp c1 hf
      refine nd_iconst (v := 1) dL_law_646 (by decide) ?_
      cases hf
      exact nd_zret (v := 1) (by decide) dL_law_647
    · replace hf := ifn c1 hf
      refine nd_aload_n (j := 0) dL_law_32 rfl rfl ?_
      refine nd_iload (j := 4) dL_law_33 rfl ?_
      replace hf := ckE hf
      obtain ⟨c2, hf⟩ := hf
      refine nd_sald dL_law_35 c2 ?_
      refine nd_bipush (v := 15) dL_law_36 (by decide) ?_
      refine nd_iand dL_law_38 ?_
      replace hf := bnE hf
      obtain ⟨v3, e_v3, hf⟩ := hf
      refine nd_top e_v3 ?_
      by_cases c4 : v3 = 0
      · replace hf := ifp c4 hf
        refine nd_tabIn (tgt := 100) dL_law_39 (by rw [c4]; decide) (by rw [c4]; decide) (by rw [c4]; rfl) (by decide) ?_
        refine nd_aload_n (j := 1) dL_law_100 rfl rfl ?_
        refine nd_aload_n (j := 0) dL_law_101 rfl rfl ?_
        refine nd_iload (j := 4) dL_law_102 rfl ?_
        refine nd_iconst (v := 1) dL_law_104 (by decide) ?_
        refine nd_iadd dL_law_105 ?_
        replace hf := ckE hf
        obtain ⟨c5, hf⟩ := hf
        refine nd_sald dL_law_106 c5 ?_
        refine nd_i2c dL_law_107 ?_
        replace hf := caE hf
        obtain ⟨v7, h6, e_h6, hf⟩ := hf
        refine nd_Vi [] (tX1_type l w hfl F d k_x1 e_h6) rfl dL_law_108 mw_X1_type (Or.inl q322) k_x1 rfl q323 q324 (by omega) (by omega) (Nat.le_of_ble_eq_true rfl) ?_
        refine nd_aload_n (j := 2) dL_law_111 rfl rfl ?_
        refine nd_aload_n (j := 0) dL_law_112 rfl rfl ?_
        refine nd_iload (j := 4) dL_law_113 rfl ?_
        refine nd_iconst (v := 1) dL_law_115 (by decide) ?_
        refine nd_iadd dL_law_116 ?_
        replace hf := ckE hf
        obtain ⟨c8, hf⟩ := hf
        refine nd_sald dL_law_117 c8 ?_
        refine nd_i2c dL_law_118 ?_
        replace hf := caE hf
        obtain ⟨v10, h9, e_h9, hf⟩ := hf
        refine nd_Vi [vi v7] (tX6_type l w hfl F d k_x2 e_h9) rfl dL_law_119 mw_X6_type (Or.inl q1522) k_x2 rfl q1523 q1524 (by omega) (by omega) (Nat.le_of_ble_eq_true rfl) ?_
        refine nd_icmp_eq (tgt := 640) dL_law_122 (by decide) (fun c11 => ?_) (fun c11 => ?_)
        · replace hf := ifp c11 hf
          exact nd_loc [0, 1, 2, 3, 4] rfl (tL_law_640 l w hfl F d r (fL_law_23 F d w.2.2.2.2.2.1 w.2.2.2.2.2.2 n) ih _ _ _ _ k_x1 k_x2 k_x3 _ hf)
        · replace hf := ifn c11 hf
          refine nd_iconst (v := 0) dL_law_125 (by decide) ?_
          cases hf
          exact nd_zret (v := 0) (by decide) dL_law_126
      replace hf := ifn c4 hf
      by_cases c12 : v3 = 1
      · replace hf := ifp c12 hf
        refine nd_tabIn (tgt := 127) dL_law_39 (by rw [c12]; decide) (by rw [c12]; decide) (by rw [c12]; rfl) (by decide) ?_
        refine nd_aload_n (j := 1) dL_law_127 rfl rfl ?_
        replace hf := caE hf
        obtain ⟨v14, h13, e_h13, hf⟩ := hf
        refine nd_Vi [] (tX1_clear l w hfl F d k_x1 e_h13) rfl dL_law_128 mw_X1_clear (Or.inl q334) k_x1 rfl q335 q336 (by omega) (by omega) (Nat.le_of_ble_eq_true rfl) ?_
        refine nd_aload_n (j := 2) dL_law_131 rfl rfl ?_
        replace hf := caE hf
        obtain ⟨v16, h15, e_h15, hf⟩ := hf
        refine nd_Vi [vi v14] (tX6_clear l w hfl F d k_x2 e_h15) rfl dL_law_132 mw_X6_clear (Or.inl q1526) k_x2 rfl q1527 q1528 (by omega) (by omega) (Nat.le_of_ble_eq_true rfl) ?_
        refine nd_icmp_eq (tgt := 640) dL_law_135 (by decide) (fun c17 => ?_) (fun c17 => ?_)
        · replace hf := ifp c17 hf
          exact nd_loc [0, 1, 2, 3, 4] rfl (tL_law_640 l w hfl F d r (fL_law_23 F d w.2.2.2.2.2.1 w.2.2.2.2.2.2 n) ih _ _ _ _ k_x1 k_x2 k_x3 _ hf)
        · replace hf := ifn c17 hf
          refine nd_iconst (v := 0) dL_law_138 (by decide) ?_
          cases hf
          exact nd_zret (v := 0) (by decide) dL_law_139
      replace hf := ifn c12 hf
      by_cases c18 : v3 = 2
      · replace hf := ifp c18 hf
        refine nd_tabIn (tgt := 140) dL_law_39 (by rw [c18]; decide) (by rw [c18]; decide) (by rw [c18]; rfl) (by decide) ?_
        refine nd_aload_n (j := 1) dL_law_140 rfl rfl ?_
        replace hf := caE hf
        obtain ⟨v20, h19, e_h19, hf⟩ := hf
        refine nd_Vi [] (tX1_compile l w hfl F d k_x1 e_h19) rfl dL_law_141 mw_X1_compile (Or.inl q338) k_x1 rfl q339 q340 (by omega) (by omega) (Nat.le_of_ble_eq_true rfl) ?_
        refine nd_aload_n (j := 2) dL_law_144 rfl rfl ?_
        replace hf := caE hf
        obtain ⟨v22, h21, e_h21, hf⟩ := hf
        refine nd_Vi [vi v20] (tX6_compile l w hfl F d k_x2 e_h21) rfl dL_law_145 mw_X6_compile (Or.inl q1530) k_x2 rfl q1531 q1532 (by omega) (by omega) (Nat.le_of_ble_eq_true rfl) ?_
        refine nd_icmp_eq (tgt := 640) dL_law_148 (by decide) (fun c23 => ?_) (fun c23 => ?_)
        · replace hf := ifp c23 hf
          exact nd_loc [0, 1, 2, 3, 4] rfl (tL_law_640 l w hfl F d r (fL_law_23 F d w.2.2.2.2.2.1 w.2.2.2.2.2.2 n) ih _ _ _ _ k_x1 k_x2 k_x3 _ hf)
        · replace hf := ifn c23 hf
          refine nd_iconst (v := 0) dL_law_151 (by decide) ?_
          cases hf
          exact nd_zret (v := 0) (by decide) dL_law_152
      replace hf := ifn c18 hf
      by_cases c24 : v3 = 3
      · replace hf := ifp c24 hf
        refine nd_tabIn (tgt := 153) dL_law_39 (by rw [c24]; decide) (by rw [c24]; decide) (by rw [c24]; rfl) (by decide) ?_
        refine nd_aload_n (j := 1) dL_law_153 rfl rfl ?_
        refine nd_aload_n (j := 0) dL_law_154 rfl rfl ?_
        refine nd_iload (j := 4) dL_law_155 rfl ?_
        refine nd_iconst (v := 1) dL_law_157 (by decide) ?_
        refine nd_iadd dL_law_158 ?_
        replace hf := ckE hf
        obtain ⟨c25, hf⟩ := hf
        refine nd_sald dL_law_159 c25 ?_
        refine nd_i2l dL_law_160 ?_
        refine nd_bipush (v := 32) dL_law_161 (by decide) ?_
        refine nd_lshl dL_law_163 ?_
        refine nd_aload_n (j := 0) dL_law_164 rfl rfl ?_
        refine nd_iload (j := 4) dL_law_165 rfl ?_
        refine nd_iconst (v := 2) dL_law_167 (by decide) ?_
        refine nd_iadd dL_law_168 ?_
        replace hf := ckE hf
        obtain ⟨c26, hf⟩ := hf
        refine nd_sald dL_law_169 c26 ?_
        refine nd_i2l dL_law_170 ?_
        refine nd_ldc2 (v := 4294967295) dL_law_171 q1806 ?_
        refine nd_land dL_law_174 ?_
        refine nd_lor dL_law_175 ?_
        refine nd_aload_n (j := 0) dL_law_176 rfl rfl ?_
        refine nd_iload (j := 4) dL_law_177 rfl ?_
        refine nd_iconst (v := 3) dL_law_179 (by decide) ?_
        refine nd_iadd dL_law_180 ?_
        replace hf := ckE hf
        obtain ⟨c27, hf⟩ := hf
        refine nd_sald dL_law_181 c27 ?_
        replace hf := caE hf
        obtain ⟨v29, h28, e_h28, hf⟩ := hf
        refine nd_Vi [] (tX1_put l w hfl F d k_x1 e_h28) rfl dL_law_182 mw_X1_put (Or.inl q672) k_x1 rfl q673 q674 (by omega) (by omega) (Nat.le_of_ble_eq_true rfl) ?_
        refine nd_aload_n (j := 2) dL_law_185 rfl rfl ?_
        refine nd_aload_n (j := 0) dL_law_186 rfl rfl ?_
        refine nd_iload (j := 4) dL_law_187 rfl ?_
        refine nd_iconst (v := 1) dL_law_189 (by decide) ?_
        refine nd_iadd dL_law_190 ?_
        replace hf := ckE hf
        obtain ⟨c30, hf⟩ := hf
        refine nd_sald dL_law_191 c30 ?_
        refine nd_i2l dL_law_192 ?_
        refine nd_bipush (v := 32) dL_law_193 (by decide) ?_
        refine nd_lshl dL_law_195 ?_
        refine nd_aload_n (j := 0) dL_law_196 rfl rfl ?_
        refine nd_iload (j := 4) dL_law_197 rfl ?_
        refine nd_iconst (v := 2) dL_law_199 (by decide) ?_
        refine nd_iadd dL_law_200 ?_
        replace hf := ckE hf
        obtain ⟨c31, hf⟩ := hf
        refine nd_sald dL_law_201 c31 ?_
        refine nd_i2l dL_law_202 ?_
        refine nd_ldc2 (v := 4294967295) dL_law_203 q1806 ?_
        refine nd_land dL_law_206 ?_
        refine nd_lor dL_law_207 ?_
        refine nd_aload_n (j := 0) dL_law_208 rfl rfl ?_
        refine nd_iload (j := 4) dL_law_209 rfl ?_
        refine nd_iconst (v := 3) dL_law_211 (by decide) ?_
        refine nd_iadd dL_law_212 ?_
        replace hf := ckE hf
        obtain ⟨c32, hf⟩ := hf
        refine nd_sald dL_law_213 c32 ?_
        replace hf := caE hf
        obtain ⟨v34, h33, e_h33, hf⟩ := hf
        refine nd_Vi [vi v29] (tX6_put l w hfl F d k_x2 e_h33) rfl dL_law_214 mw_X6_put (Or.inl q1602) k_x2 rfl q1603 q1604 (by omega) (by omega) (Nat.le_of_ble_eq_true rfl) ?_
        refine nd_icmp_eq (tgt := 640) dL_law_217 (by decide) (fun c35 => ?_) (fun c35 => ?_)
        · replace hf := ifp c35 hf
          exact nd_loc [0, 1, 2, 3, 4] rfl (tL_law_640 l w hfl F d r (fL_law_23 F d w.2.2.2.2.2.1 w.2.2.2.2.2.2 n) ih _ _ _ _ k_x1 k_x2 k_x3 _ hf)
        · replace hf := ifn c35 hf
          refine nd_iconst (v := 0) dL_law_220 (by decide) ?_
          cases hf
          exact nd_zret (v := 0) (by decide) dL_law_221
      replace hf := ifn c24 hf
      by_cases c36 : v3 = 4
      · replace hf := ifp c36 hf
        refine nd_tabIn (tgt := 222) dL_law_39 (by rw [c36]; decide) (by rw [c36]; decide) (by rw [c36]; rfl) (by decide) ?_
        refine nd_aload_n (j := 1) dL_law_222 rfl rfl ?_
        replace hf := caE hf
        obtain ⟨v38, h37, e_h37, hf⟩ := hf
        refine nd_Vi [] (tX1_wipe l w hfl F d k_x1 e_h37) rfl dL_law_223 mw_X1_wipe (Or.inl q678) k_x1 rfl q679 q680 (by omega) (by omega) (Nat.le_of_ble_eq_true rfl) ?_
        refine nd_aload_n (j := 2) dL_law_226 rfl rfl ?_
        replace hf := caE hf
        obtain ⟨v40, h39, e_h39, hf⟩ := hf
        refine nd_Vi [vi v38] (tX6_wipe l w hfl F d k_x2 e_h39) rfl dL_law_227 mw_X6_wipe (Or.inl q1607) k_x2 rfl q1608 q1609 (by omega) (by omega) (Nat.le_of_ble_eq_true rfl) ?_
        refine nd_icmp_eq (tgt := 640) dL_law_230 (by decide) (fun c41 => ?_) (fun c41 => ?_)
        · replace hf := ifp c41 hf
          exact nd_loc [0, 1, 2, 3, 4] rfl (tL_law_640 l w hfl F d r (fL_law_23 F d w.2.2.2.2.2.1 w.2.2.2.2.2.2 n) ih _ _ _ _ k_x1 k_x2 k_x3 _ hf)
        · replace hf := ifn c41 hf
          refine nd_iconst (v := 0) dL_law_233 (by decide) ?_
          cases hf
          exact nd_zret (v := 0) (by decide) dL_law_234
      replace hf := ifn c36 hf
      by_cases c42 : v3 = 5
      · replace hf := ifp c42 hf
        refine nd_tabIn (tgt := 235) dL_law_39 (by rw [c42]; decide) (by rw [c42]; decide) (by rw [c42]; rfl) (by decide) ?_
        refine nd_aload_n (j := 1) dL_law_235 rfl rfl ?_
        refine nd_aload_n (j := 0) dL_law_236 rfl rfl ?_
        refine nd_iload (j := 4) dL_law_237 rfl ?_
        refine nd_iconst (v := 1) dL_law_239 (by decide) ?_
        refine nd_iadd dL_law_240 ?_
        replace hf := ckE hf
        obtain ⟨c43, hf⟩ := hf
        refine nd_sald dL_law_241 c43 ?_
        refine nd_aload_n (j := 3) dL_law_242 rfl rfl ?_
        replace hf := caE hf
        obtain ⟨v45, h44, e_h44, hf⟩ := hf
        refine nd_SWi [] (tX0_at l w hfl F d k_x1 k_x3 e_h44) rfl dL_law_243 q688 q85 ⟨by decide, by decide, hd_X0_at⟩ q686 q687 (by omega) (by omega) (Nat.le_of_ble_eq_true rfl) ?_
        refine nd_istore [(5, vi v45), (0, vr (some 5)), (1, vr (some x1)), (2, vr (some x2)), (3, vr (some x3)), (4, vi x4)] dL_law_246 (Nat.le_of_ble_eq_true rfl) rfl ?_
        refine nd_aload_n (j := 3) dL_law_248 rfl rfl ?_
        refine nd_aload_n (j := 1) dL_law_249 rfl rfl ?_
        refine nd_iload (j := 5) dL_law_250 rfl ?_
        refine nd_iconst (v := 1) dL_law_252 (by decide) ?_
        refine nd_iadd dL_law_253 ?_
        replace hf := ckE hf
        obtain ⟨c46, hf⟩ := hf
        refine nd_sald dL_law_254 c46 ?_
        replace hf := caE hf
        obtain ⟨v48, h47, e_h47, hf⟩ := hf
        refine nd_Vi [] (tX6_at l w hfl F d k_x2 e_h47) rfl dL_law_255 mw_X6_at (Or.inl q1611) k_x2 rfl q1612 q1613 (by omega) (by omega) (Nat.le_of_ble_eq_true rfl) ?_
        refine nd_istore [(6, vi v48), (5, vi v45), (0, vr (some 5)), (1, vr (some x1)), (2, vr (some x2)), (3, vr (some x3)), (4, vi x4)] dL_law_258 (Nat.le_of_ble_eq_true rfl) rfl ?_
        refine nd_aload_n (j := 4) dL_law_260 rfl rfl ?_
        replace hf := caE hf
        obtain ⟨v50, h49, e_h49, hf⟩ := hf
        refine nd_Vi [] (tX6_thrown l w hfl F d k_x2 e_h49) rfl dL_law_261 mw_X6_thrown (Or.inl q1518) k_x2 rfl q1519 q1520 (by omega) (by omega) (Nat.le_of_ble_eq_true rfl) ?_
        refine nd_iload (j := 1) dL_law_264 rfl ?_
        refine nd_icmp_eq (tgt := 271) dL_law_266 (by decide) (fun c51 => ?_) (fun c51 => ?_)
        · replace hf := ifp c51 hf
          refine nd_iload (j := 1) dL_law_271 rfl ?_
          refine nd_if_ne (tgt := 288) dL_law_273 (by decide) (fun c52 => ?_) (fun c52 => ?_)
          · replace hf := ifn c52 hf
            exact nd_loc [2, 3, 4, 5, 6] rfl (tL_law_288 l w hfl F d r (fL_law_23 F d w.2.2.2.2.2.1 w.2.2.2.2.2.2 n) ih _ _ _ _ k_x1 k_x2 k_x3 _ hf)
          · replace hf := ifp c52 hf
            refine nd_aload_n (j := 5) dL_law_276 rfl rfl ?_
            refine nd_iconst (v := 0) dL_law_277 (by decide) ?_
            replace hf := ckE hf
            obtain ⟨c53, hf⟩ := hf
            refine nd_lald dL_law_278 k_x3 c53 ?_
            refine nd_iload (j := 0) dL_law_279 rfl ?_
            refine nd_i2l dL_law_281 ?_
            refine nd_lcmp dL_law_282 ?_
            refine nd_if_eq (tgt := 288) dL_law_283 (by decide) (fun c54 => ?_) (fun c54 => ?_)
            · replace hf := ifp c54 hf
              exact nd_loc [2, 3, 4, 5, 6] rfl (tL_law_288 l w hfl F d r (fL_law_23 F d w.2.2.2.2.2.1 w.2.2.2.2.2.2 n) ih _ _ _ _ k_x1 k_x2 k_x3 _ hf)
            · replace hf := ifn c54 hf
              refine nd_iconst (v := 0) dL_law_286 (by decide) ?_
              cases hf
              exact nd_zret (v := 0) (by decide) dL_law_287
        · replace hf := ifn c51 hf
          refine nd_iconst (v := 0) dL_law_269 (by decide) ?_
          cases hf
          exact nd_zret (v := 0) (by decide) dL_law_270
      replace hf := ifn c42 hf
      by_cases c55 : v3 = 6
      · replace hf := ifp c55 hf
        refine nd_tabIn (tgt := 291) dL_law_39 (by rw [c55]; decide) (by rw [c55]; decide) (by rw [c55]; rfl) (by decide) ?_
        refine nd_aload_n (j := 1) dL_law_291 rfl rfl ?_
        refine nd_aload_n (j := 0) dL_law_292 rfl rfl ?_
        refine nd_iload (j := 4) dL_law_293 rfl ?_
        refine nd_iconst (v := 1) dL_law_295 (by decide) ?_
        refine nd_iadd dL_law_296 ?_
        replace hf := ckE hf
        obtain ⟨c56, hf⟩ := hf
        refine nd_sald dL_law_297 c56 ?_
        refine nd_i2c dL_law_298 ?_
        refine nd_aload_n (j := 0) dL_law_299 rfl rfl ?_
        refine nd_iload (j := 4) dL_law_300 rfl ?_
        refine nd_iconst (v := 2) dL_law_302 (by decide) ?_
        refine nd_iadd dL_law_303 ?_
        replace hf := ckE hf
        obtain ⟨c57, hf⟩ := hf
        refine nd_sald dL_law_304 c57 ?_
        refine nd_aload_n (j := 0) dL_law_305 rfl rfl ?_
        refine nd_iload (j := 4) dL_law_306 rfl ?_
        refine nd_iconst (v := 3) dL_law_308 (by decide) ?_
        refine nd_iadd dL_law_309 ?_
        replace hf := ckE hf
        obtain ⟨c58, hf⟩ := hf
        refine nd_sald dL_law_310 c58 ?_
        refine nd_aload_n (j := 3) dL_law_311 rfl rfl ?_
        replace hf := caE hf
        obtain ⟨v60, h59, e_h59, hf⟩ := hf
        refine nd_SWi [] (tX0_transcode l w hfl F d k_x1 k_x3 e_h59) rfl dL_law_312 q795 q85 ⟨by decide, by decide, hd_X0_transcode⟩ q793 q794 (by omega) (by omega) (Nat.le_of_ble_eq_true rfl) ?_
        refine nd_istore [(5, vi v60), (0, vr (some 5)), (1, vr (some x1)), (2, vr (some x2)), (3, vr (some x3)), (4, vi x4)] dL_law_315 (Nat.le_of_ble_eq_true rfl) rfl ?_
        refine nd_aload_n (j := 3) dL_law_317 rfl rfl ?_
        refine nd_aload_n (j := 1) dL_law_318 rfl rfl ?_
        refine nd_iload (j := 5) dL_law_319 rfl ?_
        refine nd_iconst (v := 1) dL_law_321 (by decide) ?_
        refine nd_iadd dL_law_322 ?_
        replace hf := ckE hf
        obtain ⟨c61, hf⟩ := hf
        refine nd_sald dL_law_323 c61 ?_
        refine nd_i2c dL_law_324 ?_
        refine nd_aload_n (j := 1) dL_law_325 rfl rfl ?_
        refine nd_iload (j := 5) dL_law_326 rfl ?_
        refine nd_iconst (v := 2) dL_law_328 (by decide) ?_
        refine nd_iadd dL_law_329 ?_
        replace hf := ckE hf
        obtain ⟨c62, hf⟩ := hf
        refine nd_sald dL_law_330 c62 ?_
        refine nd_aload_n (j := 1) dL_law_331 rfl rfl ?_
        refine nd_iload (j := 5) dL_law_332 rfl ?_
        refine nd_iconst (v := 3) dL_law_334 (by decide) ?_
        refine nd_iadd dL_law_335 ?_
        replace hf := ckE hf
        obtain ⟨c63, hf⟩ := hf
        refine nd_sald dL_law_336 c63 ?_
        replace hf := caE hf
        obtain ⟨v65, h64, e_h64, hf⟩ := hf
        refine nd_Vi [] (tX6_transcode l w hfl F d k_x2 e_h64) rfl dL_law_337 mw_X6_transcode (Or.inl q1615) k_x2 rfl q1616 q1617 (by omega) (by omega) (Nat.le_of_ble_eq_true rfl) ?_
        refine nd_istore [(6, vi v65), (5, vi v60), (0, vr (some 5)), (1, vr (some x1)), (2, vr (some x2)), (3, vr (some x3)), (4, vi x4)] dL_law_340 (Nat.le_of_ble_eq_true rfl) rfl ?_
        refine nd_aload_n (j := 4) dL_law_342 rfl rfl ?_
        replace hf := caE hf
        obtain ⟨v67, h66, e_h66, hf⟩ := hf
        refine nd_Vi [] (tX6_thrown l w hfl F d k_x2 e_h66) rfl dL_law_343 mw_X6_thrown (Or.inl q1518) k_x2 rfl q1519 q1520 (by omega) (by omega) (Nat.le_of_ble_eq_true rfl) ?_
        refine nd_iload (j := 1) dL_law_346 rfl ?_
        refine nd_icmp_eq (tgt := 353) dL_law_348 (by decide) (fun c68 => ?_) (fun c68 => ?_)
        · replace hf := ifp c68 hf
          refine nd_iload (j := 1) dL_law_353 rfl ?_
          refine nd_if_ne (tgt := 370) dL_law_355 (by decide) (fun c69 => ?_) (fun c69 => ?_)
          · replace hf := ifn c69 hf
            exact nd_loc [2, 3, 4, 5, 6] rfl (tL_law_370 l w hfl F d r (fL_law_23 F d w.2.2.2.2.2.1 w.2.2.2.2.2.2 n) ih _ _ _ _ k_x1 k_x2 k_x3 _ hf)
          · replace hf := ifp c69 hf
            refine nd_aload_n (j := 5) dL_law_358 rfl rfl ?_
            refine nd_iconst (v := 0) dL_law_359 (by decide) ?_
            replace hf := ckE hf
            obtain ⟨c70, hf⟩ := hf
            refine nd_lald dL_law_360 k_x3 c70 ?_
            refine nd_iload (j := 0) dL_law_361 rfl ?_
            refine nd_i2l dL_law_363 ?_
            refine nd_lcmp dL_law_364 ?_
            refine nd_if_eq (tgt := 370) dL_law_365 (by decide) (fun c71 => ?_) (fun c71 => ?_)
            · replace hf := ifp c71 hf
              exact nd_loc [2, 3, 4, 5, 6] rfl (tL_law_370 l w hfl F d r (fL_law_23 F d w.2.2.2.2.2.1 w.2.2.2.2.2.2 n) ih _ _ _ _ k_x1 k_x2 k_x3 _ hf)
            · replace hf := ifn c71 hf
              refine nd_iconst (v := 0) dL_law_368 (by decide) ?_
              cases hf
              exact nd_zret (v := 0) (by decide) dL_law_369
        · replace hf := ifn c68 hf
          refine nd_iconst (v := 0) dL_law_351 (by decide) ?_
          cases hf
          exact nd_zret (v := 0) (by decide) dL_law_352
      replace hf := ifn c55 hf
      by_cases c72 : v3 = 7
      · replace hf := ifp c72 hf
        refine nd_tabIn (tgt := 373) dL_law_39 (by rw [c72]; decide) (by rw [c72]; decide) (by rw [c72]; rfl) (by decide) ?_
        refine nd_aload_n (j := 1) dL_law_373 rfl rfl ?_
        replace hf := caE hf
        obtain ⟨v74, h73, e_h73, hf⟩ := hf
        refine nd_Vi [] (tX1_parts l w hfl F d k_x1 e_h73) rfl dL_law_374 mw_X1_parts (Or.inl q682) k_x1 rfl q683 q684 (by omega) (by omega) (Nat.le_of_ble_eq_true rfl) ?_
        refine nd_aload_n (j := 2) dL_law_377 rfl rfl ?_
        replace hf := caE hf
        obtain ⟨v76, h75, e_h75, hf⟩ := hf
        refine nd_Vi [vi v74] (tX6_parts l w hfl F d k_x2 e_h75) rfl dL_law_378 mw_X6_parts (Or.inl q1782) k_x2 rfl q1783 q1784 (by omega) (by omega) (Nat.le_of_ble_eq_true rfl) ?_
        refine nd_icmp_eq (tgt := 640) dL_law_381 (by decide) (fun c77 => ?_) (fun c77 => ?_)
        · replace hf := ifp c77 hf
          exact nd_loc [0, 1, 2, 3, 4] rfl (tL_law_640 l w hfl F d r (fL_law_23 F d w.2.2.2.2.2.1 w.2.2.2.2.2.2 n) ih _ _ _ _ k_x1 k_x2 k_x3 _ hf)
        · replace hf := ifn c77 hf
          refine nd_iconst (v := 0) dL_law_384 (by decide) ?_
          cases hf
          exact nd_zret (v := 0) (by decide) dL_law_385
      replace hf := ifn c72 hf
      by_cases c78 : v3 = 8
      · replace hf := ifp c78 hf
        refine nd_tabIn (tgt := 386) dL_law_39 (by rw [c78]; decide) (by rw [c78]; decide) (by rw [c78]; rfl) (by decide) ?_
        refine nd_aload_n (j := 1) dL_law_386 rfl rfl ?_
        refine nd_aload_n (j := 0) dL_law_387 rfl rfl ?_
        refine nd_iload (j := 4) dL_law_388 rfl ?_
        refine nd_iconst (v := 1) dL_law_390 (by decide) ?_
        refine nd_iadd dL_law_391 ?_
        replace hf := ckE hf
        obtain ⟨c79, hf⟩ := hf
        refine nd_sald dL_law_392 c79 ?_
        refine nd_aload_n (j := 0) dL_law_393 rfl rfl ?_
        refine nd_iload (j := 4) dL_law_394 rfl ?_
        refine nd_iconst (v := 2) dL_law_396 (by decide) ?_
        refine nd_iadd dL_law_397 ?_
        replace hf := ckE hf
        obtain ⟨c80, hf⟩ := hf
        refine nd_sald dL_law_398 c80 ?_
        refine nd_aload_n (j := 3) dL_law_399 rfl rfl ?_
        replace hf := caE hf
        obtain ⟨v82, h81, e_h81, hf⟩ := hf
        refine nd_SWi [] (tX0_part l w hfl F d k_x1 k_x3 e_h81) rfl dL_law_400 q1296 q85 ⟨by decide, by decide, hd_X0_part⟩ q1294 q1295 (by omega) (by omega) (Nat.le_of_ble_eq_true rfl) ?_
        refine nd_istore [(5, vi v82), (0, vr (some 5)), (1, vr (some x1)), (2, vr (some x2)), (3, vr (some x3)), (4, vi x4)] dL_law_403 (Nat.le_of_ble_eq_true rfl) rfl ?_
        refine nd_aload_n (j := 3) dL_law_405 rfl rfl ?_
        refine nd_aload_n (j := 1) dL_law_406 rfl rfl ?_
        refine nd_iload (j := 5) dL_law_407 rfl ?_
        refine nd_iconst (v := 1) dL_law_409 (by decide) ?_
        refine nd_iadd dL_law_410 ?_
        replace hf := ckE hf
        obtain ⟨c83, hf⟩ := hf
        refine nd_sald dL_law_411 c83 ?_
        refine nd_aload_n (j := 1) dL_law_412 rfl rfl ?_
        refine nd_iload (j := 5) dL_law_413 rfl ?_
        refine nd_iconst (v := 2) dL_law_415 (by decide) ?_
        refine nd_iadd dL_law_416 ?_
        replace hf := ckE hf
        obtain ⟨c84, hf⟩ := hf
        refine nd_sald dL_law_417 c84 ?_
        replace hf := caE hf
        obtain ⟨v86, h85, e_h85, hf⟩ := hf
        refine nd_Vi [] (tX6_part l w hfl F d k_x2 e_h85) rfl dL_law_418 mw_X6_part (Or.inl q1786) k_x2 rfl q1787 q1788 (by omega) (by omega) (Nat.le_of_ble_eq_true rfl) ?_
        refine nd_istore [(6, vi v86), (5, vi v82), (0, vr (some 5)), (1, vr (some x1)), (2, vr (some x2)), (3, vr (some x3)), (4, vi x4)] dL_law_421 (Nat.le_of_ble_eq_true rfl) rfl ?_
        refine nd_aload_n (j := 4) dL_law_423 rfl rfl ?_
        replace hf := caE hf
        obtain ⟨v88, h87, e_h87, hf⟩ := hf
        refine nd_Vi [] (tX6_thrown l w hfl F d k_x2 e_h87) rfl dL_law_424 mw_X6_thrown (Or.inl q1518) k_x2 rfl q1519 q1520 (by omega) (by omega) (Nat.le_of_ble_eq_true rfl) ?_
        refine nd_iload (j := 1) dL_law_427 rfl ?_
        refine nd_icmp_eq (tgt := 434) dL_law_429 (by decide) (fun c89 => ?_) (fun c89 => ?_)
        · replace hf := ifp c89 hf
          refine nd_iload (j := 1) dL_law_434 rfl ?_
          refine nd_if_ne (tgt := 451) dL_law_436 (by decide) (fun c90 => ?_) (fun c90 => ?_)
          · replace hf := ifn c90 hf
            exact nd_loc [2, 3, 4, 5, 6] rfl (tL_law_451 l w hfl F d r (fL_law_23 F d w.2.2.2.2.2.1 w.2.2.2.2.2.2 n) ih _ _ _ _ k_x1 k_x2 k_x3 _ hf)
          · replace hf := ifp c90 hf
            refine nd_aload_n (j := 5) dL_law_439 rfl rfl ?_
            refine nd_iconst (v := 0) dL_law_440 (by decide) ?_
            replace hf := ckE hf
            obtain ⟨c91, hf⟩ := hf
            refine nd_lald dL_law_441 k_x3 c91 ?_
            refine nd_iload (j := 0) dL_law_442 rfl ?_
            refine nd_i2l dL_law_444 ?_
            refine nd_lcmp dL_law_445 ?_
            refine nd_if_eq (tgt := 451) dL_law_446 (by decide) (fun c92 => ?_) (fun c92 => ?_)
            · replace hf := ifp c92 hf
              exact nd_loc [2, 3, 4, 5, 6] rfl (tL_law_451 l w hfl F d r (fL_law_23 F d w.2.2.2.2.2.1 w.2.2.2.2.2.2 n) ih _ _ _ _ k_x1 k_x2 k_x3 _ hf)
            · replace hf := ifn c92 hf
              refine nd_iconst (v := 0) dL_law_449 (by decide) ?_
              cases hf
              exact nd_zret (v := 0) (by decide) dL_law_450
        · replace hf := ifn c89 hf
          refine nd_iconst (v := 0) dL_law_432 (by decide) ?_
          cases hf
          exact nd_zret (v := 0) (by decide) dL_law_433
      replace hf := ifn c78 hf
      by_cases c93 : v3 = 9
      · replace hf := ifp c93 hf
        refine nd_tabIn (tgt := 454) dL_law_39 (by rw [c93]; decide) (by rw [c93]; decide) (by rw [c93]; rfl) (by decide) ?_
        refine nd_aload_n (j := 1) dL_law_454 rfl rfl ?_
        refine nd_aload_n (j := 0) dL_law_455 rfl rfl ?_
        refine nd_iload (j := 4) dL_law_456 rfl ?_
        refine nd_iconst (v := 1) dL_law_458 (by decide) ?_
        refine nd_iadd dL_law_459 ?_
        replace hf := ckE hf
        obtain ⟨c94, hf⟩ := hf
        refine nd_sald dL_law_460 c94 ?_
        refine nd_aload_n (j := 0) dL_law_461 rfl rfl ?_
        refine nd_iload (j := 4) dL_law_462 rfl ?_
        refine nd_iconst (v := 2) dL_law_464 (by decide) ?_
        refine nd_iadd dL_law_465 ?_
        replace hf := ckE hf
        obtain ⟨c95, hf⟩ := hf
        refine nd_sald dL_law_466 c95 ?_
        refine nd_aload_n (j := 3) dL_law_467 rfl rfl ?_
        replace hf := caE hf
        obtain ⟨v97, h96, e_h96, hf⟩ := hf
        refine nd_SWi [] (tX0_octet l w hfl F d k_x1 k_x3 e_h96) rfl dL_law_468 q1307 q85 ⟨by decide, by decide, hd_X0_octet⟩ q1305 q1306 (by omega) (by omega) (Nat.le_of_ble_eq_true rfl) ?_
        refine nd_istore [(5, vi v97), (0, vr (some 5)), (1, vr (some x1)), (2, vr (some x2)), (3, vr (some x3)), (4, vi x4)] dL_law_471 (Nat.le_of_ble_eq_true rfl) rfl ?_
        refine nd_aload_n (j := 3) dL_law_473 rfl rfl ?_
        refine nd_aload_n (j := 1) dL_law_474 rfl rfl ?_
        refine nd_iload (j := 5) dL_law_475 rfl ?_
        refine nd_iconst (v := 1) dL_law_477 (by decide) ?_
        refine nd_iadd dL_law_478 ?_
        replace hf := ckE hf
        obtain ⟨c98, hf⟩ := hf
        refine nd_sald dL_law_479 c98 ?_
        refine nd_aload_n (j := 1) dL_law_480 rfl rfl ?_
        refine nd_iload (j := 5) dL_law_481 rfl ?_
        refine nd_iconst (v := 2) dL_law_483 (by decide) ?_
        refine nd_iadd dL_law_484 ?_
        replace hf := ckE hf
        obtain ⟨c99, hf⟩ := hf
        refine nd_sald dL_law_485 c99 ?_
        replace hf := caE hf
        obtain ⟨v101, h100, e_h100, hf⟩ := hf
        refine nd_Vi [] (tX6_octet l w hfl F d k_x2 e_h100) rfl dL_law_486 mw_X6_octet (Or.inl q1790) k_x2 rfl q1791 q1792 (by omega) (by omega) (Nat.le_of_ble_eq_true rfl) ?_
        refine nd_istore [(6, vi v101), (5, vi v97), (0, vr (some 5)), (1, vr (some x1)), (2, vr (some x2)), (3, vr (some x3)), (4, vi x4)] dL_law_489 (Nat.le_of_ble_eq_true rfl) rfl ?_
        refine nd_aload_n (j := 4) dL_law_491 rfl rfl ?_
        replace hf := caE hf
        obtain ⟨v103, h102, e_h102, hf⟩ := hf
        refine nd_Vi [] (tX6_thrown l w hfl F d k_x2 e_h102) rfl dL_law_492 mw_X6_thrown (Or.inl q1518) k_x2 rfl q1519 q1520 (by omega) (by omega) (Nat.le_of_ble_eq_true rfl) ?_
        refine nd_iload (j := 1) dL_law_495 rfl ?_
        refine nd_icmp_eq (tgt := 502) dL_law_497 (by decide) (fun c104 => ?_) (fun c104 => ?_)
        · replace hf := ifp c104 hf
          refine nd_iload (j := 1) dL_law_502 rfl ?_
          refine nd_if_ne (tgt := 519) dL_law_504 (by decide) (fun c105 => ?_) (fun c105 => ?_)
          · replace hf := ifn c105 hf
            exact nd_loc [2, 3, 4, 5, 6] rfl (tL_law_519 l w hfl F d r (fL_law_23 F d w.2.2.2.2.2.1 w.2.2.2.2.2.2 n) ih _ _ _ _ k_x1 k_x2 k_x3 _ hf)
          · replace hf := ifp c105 hf
            refine nd_aload_n (j := 5) dL_law_507 rfl rfl ?_
            refine nd_iconst (v := 0) dL_law_508 (by decide) ?_
            replace hf := ckE hf
            obtain ⟨c106, hf⟩ := hf
            refine nd_lald dL_law_509 k_x3 c106 ?_
            refine nd_iload (j := 0) dL_law_510 rfl ?_
            refine nd_i2l dL_law_512 ?_
            refine nd_lcmp dL_law_513 ?_
            refine nd_if_eq (tgt := 519) dL_law_514 (by decide) (fun c107 => ?_) (fun c107 => ?_)
            · replace hf := ifp c107 hf
              exact nd_loc [2, 3, 4, 5, 6] rfl (tL_law_519 l w hfl F d r (fL_law_23 F d w.2.2.2.2.2.1 w.2.2.2.2.2.2 n) ih _ _ _ _ k_x1 k_x2 k_x3 _ hf)
            · replace hf := ifn c107 hf
              refine nd_iconst (v := 0) dL_law_517 (by decide) ?_
              cases hf
              exact nd_zret (v := 0) (by decide) dL_law_518
        · replace hf := ifn c104 hf
          refine nd_iconst (v := 0) dL_law_500 (by decide) ?_
          cases hf
          exact nd_zret (v := 0) (by decide) dL_law_501
      replace hf := ifn c93 hf
      by_cases c108 : v3 = 10
      · replace hf := ifp c108 hf
        refine nd_tabIn (tgt := 522) dL_law_39 (by rw [c108]; decide) (by rw [c108]; decide) (by rw [c108]; rfl) (by decide) ?_
        refine nd_aload_n (j := 1) dL_law_522 rfl rfl ?_
        refine nd_aload_n (j := 0) dL_law_523 rfl rfl ?_
        refine nd_iload (j := 4) dL_law_524 rfl ?_
        refine nd_iconst (v := 1) dL_law_526 (by decide) ?_
        refine nd_iadd dL_law_527 ?_
        replace hf := ckE hf
        obtain ⟨c109, hf⟩ := hf
        refine nd_sald dL_law_528 c109 ?_
        refine nd_aload_n (j := 0) dL_law_529 rfl rfl ?_
        refine nd_iload (j := 4) dL_law_530 rfl ?_
        refine nd_iconst (v := 2) dL_law_532 (by decide) ?_
        refine nd_iadd dL_law_533 ?_
        replace hf := ckE hf
        obtain ⟨c110, hf⟩ := hf
        refine nd_sald dL_law_534 c110 ?_
        refine nd_i2c dL_law_535 ?_
        refine nd_aload_n (j := 0) dL_law_536 rfl rfl ?_
        refine nd_iload (j := 4) dL_law_537 rfl ?_
        refine nd_iconst (v := 3) dL_law_539 (by decide) ?_
        refine nd_iadd dL_law_540 ?_
        replace hf := ckE hf
        obtain ⟨c111, hf⟩ := hf
        refine nd_sald dL_law_541 c111 ?_
        refine nd_aload_n (j := 0) dL_law_542 rfl rfl ?_
        refine nd_iload (j := 4) dL_law_543 rfl ?_
        refine nd_iconst (v := 4) dL_law_545 (by decide) ?_
        refine nd_iadd dL_law_546 ?_
        replace hf := ckE hf
        obtain ⟨c112, hf⟩ := hf
        refine nd_sald dL_law_547 c112 ?_
        replace hf := caE hf
        obtain ⟨v114, h113, e_h113, hf⟩ := hf
        refine nd_SWi [] (tX0_operation l w hfl F d k_x1 e_h113) rfl dL_law_548 q1314 q85 ⟨by decide, by decide, hd_X0_operation⟩ q1312 q1313 (by omega) (by omega) (Nat.le_of_ble_eq_true rfl) ?_
        refine nd_istore [(5, vi v114), (0, vr (some 5)), (1, vr (some x1)), (2, vr (some x2)), (3, vr (some x3)), (4, vi x4)] dL_law_551 (Nat.le_of_ble_eq_true rfl) rfl ?_
        refine nd_aload_n (j := 3) dL_law_553 rfl rfl ?_
        refine nd_aload_n (j := 1) dL_law_554 rfl rfl ?_
        refine nd_iload (j := 5) dL_law_555 rfl ?_
        refine nd_iconst (v := 1) dL_law_557 (by decide) ?_
        refine nd_iadd dL_law_558 ?_
        replace hf := ckE hf
        obtain ⟨c115, hf⟩ := hf
        refine nd_sald dL_law_559 c115 ?_
        refine nd_aload_n (j := 1) dL_law_560 rfl rfl ?_
        refine nd_iload (j := 5) dL_law_561 rfl ?_
        refine nd_iconst (v := 2) dL_law_563 (by decide) ?_
        refine nd_iadd dL_law_564 ?_
        replace hf := ckE hf
        obtain ⟨c116, hf⟩ := hf
        refine nd_sald dL_law_565 c116 ?_
        refine nd_i2c dL_law_566 ?_
        refine nd_aload_n (j := 1) dL_law_567 rfl rfl ?_
        refine nd_iload (j := 5) dL_law_568 rfl ?_
        refine nd_iconst (v := 3) dL_law_570 (by decide) ?_
        refine nd_iadd dL_law_571 ?_
        replace hf := ckE hf
        obtain ⟨c117, hf⟩ := hf
        refine nd_sald dL_law_572 c117 ?_
        refine nd_aload_n (j := 1) dL_law_573 rfl rfl ?_
        refine nd_iload (j := 5) dL_law_574 rfl ?_
        refine nd_iconst (v := 4) dL_law_576 (by decide) ?_
        refine nd_iadd dL_law_577 ?_
        replace hf := ckE hf
        obtain ⟨c118, hf⟩ := hf
        refine nd_sald dL_law_578 c118 ?_
        replace hf := cvE hf
        obtain ⟨h119, e_h119, hf⟩ := hf
        refine nd_Vv [] (tX6_operation l w hfl F d k_x2 e_h119) rfl dL_law_579 mw_X6_operation (Or.inl q1794) k_x2 rfl q1795 q1796 (by omega) (by omega) (Nat.le_of_ble_eq_true rfl) ?_
        refine nd_aload_n (j := 3) dL_law_582 rfl rfl ?_
        replace hf := caE hf
        obtain ⟨v122, h121, e_h121, hf⟩ := hf
        refine nd_Vi [] (tX6_thrown l w hfl F d k_x2 e_h121) rfl dL_law_583 mw_X6_thrown (Or.inl q1518) k_x2 rfl q1519 q1520 (by omega) (by omega) (Nat.le_of_ble_eq_true rfl) ?_
        refine nd_iload (j := 0) dL_law_586 rfl ?_
        refine nd_icmp_eq (tgt := 593) dL_law_588 (by decide) (fun c123 => ?_) (fun c123 => ?_)
        · replace hf := ifp c123 hf
          refine nd_goto (tgt := 640) dL_law_593 (by decide) ?_
          exact nd_loc [1, 2, 3, 4, 5] rfl (tL_law_640 l w hfl F d r (fL_law_23 F d w.2.2.2.2.2.1 w.2.2.2.2.2.2 n) ih _ _ _ _ k_x1 k_x2 k_x3 _ hf)
        · replace hf := ifn c123 hf
          refine nd_iconst (v := 0) dL_law_591 (by decide) ?_
          cases hf
          exact nd_zret (v := 0) (by decide) dL_law_592
      replace hf := ifn c108 hf
      by_cases c124 : v3 = 11
      · replace hf := ifp c124 hf
        refine nd_tabIn (tgt := 596) dL_law_39 (by rw [c124]; decide) (by rw [c124]; decide) (by rw [c124]; rfl) (by decide) ?_
        refine nd_aload_n (j := 1) dL_law_596 rfl rfl ?_
        refine nd_aload_n (j := 3) dL_law_597 rfl rfl ?_
        replace hf := caE hf
        obtain ⟨v126, h125, e_h125, hf⟩ := hf
        refine nd_SWi [] (tX0_serve l w hfl F d k_x1 k_x3 e_h125) rfl dL_law_598 q1321 q85 ⟨by decide, by decide, hd_X0_serve⟩ q1319 q1320 (by omega) (by omega) (Nat.le_of_ble_eq_true rfl) ?_
        refine nd_istore [(5, vi v126), (0, vr (some 5)), (1, vr (some x1)), (2, vr (some x2)), (3, vr (some x3)), (4, vi x4)] dL_law_601 (Nat.le_of_ble_eq_true rfl) rfl ?_
        refine nd_aload_n (j := 3) dL_law_603 rfl rfl ?_
        replace hf := caE hf
        obtain ⟨v128, h127, e_h127, hf⟩ := hf
        refine nd_Vi [] (tX6_serve l w hfl F d k_x2 e_h127) rfl dL_law_604 mw_X6_serve (Or.inl q1798) k_x2 rfl q1799 q1800 (by omega) (by omega) (Nat.le_of_ble_eq_true rfl) ?_
        refine nd_istore [(6, vi v128), (5, vi v126), (0, vr (some 5)), (1, vr (some x1)), (2, vr (some x2)), (3, vr (some x3)), (4, vi x4)] dL_law_607 (Nat.le_of_ble_eq_true rfl) rfl ?_
        refine nd_aload_n (j := 4) dL_law_609 rfl rfl ?_
        replace hf := caE hf
        obtain ⟨v130, h129, e_h129, hf⟩ := hf
        refine nd_Vi [] (tX6_thrown l w hfl F d k_x2 e_h129) rfl dL_law_610 mw_X6_thrown (Or.inl q1518) k_x2 rfl q1519 q1520 (by omega) (by omega) (Nat.le_of_ble_eq_true rfl) ?_
        refine nd_iload (j := 1) dL_law_613 rfl ?_
        refine nd_icmp_eq (tgt := 620) dL_law_615 (by decide) (fun c131 => ?_) (fun c131 => ?_)
        · replace hf := ifp c131 hf
          refine nd_iload (j := 1) dL_law_620 rfl ?_
          refine nd_if_ne (tgt := 637) dL_law_622 (by decide) (fun c132 => ?_) (fun c132 => ?_)
          · replace hf := ifn c132 hf
            exact nd_loc [2, 3, 4, 5, 6] rfl (tL_law_637 l w hfl F d r (fL_law_23 F d w.2.2.2.2.2.1 w.2.2.2.2.2.2 n) ih _ _ _ _ k_x1 k_x2 k_x3 _ hf)
          · replace hf := ifp c132 hf
            refine nd_aload_n (j := 5) dL_law_625 rfl rfl ?_
            refine nd_iconst (v := 0) dL_law_626 (by decide) ?_
            replace hf := ckE hf
            obtain ⟨c133, hf⟩ := hf
            refine nd_lald dL_law_627 k_x3 c133 ?_
            refine nd_iload (j := 0) dL_law_628 rfl ?_
            refine nd_i2l dL_law_630 ?_
            refine nd_lcmp dL_law_631 ?_
            refine nd_if_eq (tgt := 637) dL_law_632 (by decide) (fun c134 => ?_) (fun c134 => ?_)
            · replace hf := ifp c134 hf
              exact nd_loc [2, 3, 4, 5, 6] rfl (tL_law_637 l w hfl F d r (fL_law_23 F d w.2.2.2.2.2.1 w.2.2.2.2.2.2 n) ih _ _ _ _ k_x1 k_x2 k_x3 _ hf)
            · replace hf := ifn c134 hf
              refine nd_iconst (v := 0) dL_law_635 (by decide) ?_
              cases hf
              exact nd_zret (v := 0) (by decide) dL_law_636
        · replace hf := ifn c131 hf
          refine nd_iconst (v := 0) dL_law_618 (by decide) ?_
          cases hf
          exact nd_zret (v := 0) (by decide) dL_law_619
      replace hf := ifn c124 hf
      have v_go : nd_V l w yL_law cL_law 7 (some .boolean) (9 + 8 * d) (216 + 400 * d) (.inl (some (vi r.1)), r.2) h 640 [(0, vr (some 5)), (1, vr (some x1)), (2, vr (some x2)), (3, vr (some x3)), (4, vi x4)] [] := by
        exact nd_loc [0, 1, 2, 3, 4] rfl (tL_law_640 l w hfl F d r (fL_law_23 F d w.2.2.2.2.2.1 w.2.2.2.2.2.2 n) ih _ _ _ _ k_x1 k_x2 k_x3 _ hf)
      by_cases q_ : v3.toInt < 0 ∨ 11 < v3.toInt
      · exact nd_tabOut dL_law_39 q_ (by decide) v_go
      have q1_ : ¬ v3.toInt < 0 := fun z => q_ (Or.inl z)
      have q2_ : ¬ 11 < v3.toInt := fun z => q_ (Or.inr z)
      have q3_ : v3.toInt = 0 ∨ v3.toInt = 1 ∨ v3.toInt = 2 ∨ v3.toInt = 3 ∨ v3.toInt = 4 ∨ v3.toInt = 5 ∨ v3.toInt = 6 ∨ v3.toInt = 7 ∨ v3.toInt = 8 ∨ v3.toInt = 9 ∨ v3.toInt = 10 ∨ v3.toInt = 11 := by
        omega
      rcases q3_ with q3_ | q3_ | q3_ | q3_ | q3_ | q3_ | q3_ | q3_ | q3_ | q3_ | q3_ | q3_
      · exact absurd (Int32.toInt_inj.mp (by rw [q3_]; decide)) c4
      · exact absurd (Int32.toInt_inj.mp (by rw [q3_]; decide)) c12
      · exact absurd (Int32.toInt_inj.mp (by rw [q3_]; decide)) c18
      · exact absurd (Int32.toInt_inj.mp (by rw [q3_]; decide)) c24
      · exact absurd (Int32.toInt_inj.mp (by rw [q3_]; decide)) c36
      · exact absurd (Int32.toInt_inj.mp (by rw [q3_]; decide)) c42
      · exact absurd (Int32.toInt_inj.mp (by rw [q3_]; decide)) c55
      · exact absurd (Int32.toInt_inj.mp (by rw [q3_]; decide)) c72
      · exact absurd (Int32.toInt_inj.mp (by rw [q3_]; decide)) c78
      · exact absurd (Int32.toInt_inj.mp (by rw [q3_]; decide)) c93
      · exact absurd (Int32.toInt_inj.mp (by rw [q3_]; decide)) c108
      · exact absurd (Int32.toInt_inj.mp (by rw [q3_]; decide)) c124
set_option maxHeartbeats 4000000 in
theorem tL_law (l : Launch) (w : Wd) (hfl : l.stackTraces = false) (F d : Nat) {h : Hp} {r : Int32 × Hp} (hf : fL_law F d w.2.2.2.2.2.1 w.2.2.2.2.2.2 h = some r) : nd_V l w yL_law cL_law 7 (some .boolean) (9 + 8 * d) (216 + 400 * d) (.inl (some (vi r.1)), r.2) h 0 [(0, vr (some 5))] [] := by
  unfold fL_law at hf
  replace hf := bnE hf
  obtain ⟨n3, e_n3, hf⟩ := hf
  replace hf := ckE hf
  obtain ⟨c1, hf⟩ := hf
  refine nd_newO (ci := 0) (n := n3) dL_law_0 rfl q113 q114 q86 c1 ?_
  replace hf := bnE hf
  obtain ⟨h2, e_h2, hf⟩ := hf
  refine nd_hp e_h2 ?_
  have k_n3 : nd_Kd n3 = 0 := (freE c1).2
  refine nd_dup dL_law_3 rfl ?_
  replace hf := cvE hf
  obtain ⟨h4, e_h4, hf⟩ := hf
  refine nd_Iv [vr (some n3)] (tX1_init l w hfl F d k_n3 e_h4) rfl dL_law_4 mw_X1_init (Or.inl q115) q116 rfl (by omega) (by omega) (Nat.le_of_ble_eq_true rfl) ?_
  refine nd_astore_n [(1, vr (some n3)), (0, vr (some 5))] dL_law_7 rfl (Nat.le_of_ble_eq_true rfl) rfl ?_
  replace hf := bnE hf
  obtain ⟨n8, e_n8, hf⟩ := hf
  replace hf := ckE hf
  obtain ⟨c6, hf⟩ := hf
  refine nd_newO (ci := 5) (n := n8) dL_law_8 rfl q1330 q1331 q91 c6 ?_
  replace hf := bnE hf
  obtain ⟨h7, e_h7, hf⟩ := hf
  refine nd_hp e_h7 ?_
  have k_n8 : nd_Kd n8 = 5 := (freE c6).2
  refine nd_dup dL_law_11 rfl ?_
  replace hf := cvE hf
  obtain ⟨h9, e_h9, hf⟩ := hf
  refine nd_Iv [vr (some n8)] (tX6_init l w hfl F d k_n8 e_h9) rfl dL_law_12 mw_X6_init (Or.inl q1332) q1333 rfl (by omega) (by omega) (Nat.le_of_ble_eq_true rfl) ?_
  refine nd_astore_n [(2, vr (some n8)), (1, vr (some n3)), (0, vr (some 5))] dL_law_15 rfl (Nat.le_of_ble_eq_true rfl) rfl ?_
  refine nd_iconst (v := 1) dL_law_16 (by decide) ?_
  replace hf := bnE hf
  obtain ⟨n13, e_n13, hf⟩ := hf
  replace hf := ckE hf
  obtain ⟨c11, hf⟩ := hf
  refine nd_newJ (n := n13) (z := 1) dL_law_17 (by decide +kernel) (by decide) (Nat.le_of_ble_eq_true rfl) c11 ?_
  replace hf := bnE hf
  obtain ⟨h12, e_h12, hf⟩ := hf
  refine nd_hp e_h12 ?_
  have k_n13 : nd_Kd n13 = 23 := (freAE c11).2.1
  refine nd_astore_n [(3, vr (some n13)), (2, vr (some n8)), (1, vr (some n3)), (0, vr (some 5))] dL_law_19 rfl (Nat.le_of_ble_eq_true rfl) rfl ?_
  refine nd_iconst (v := 0) dL_law_20 (by decide) ?_
  refine nd_istore [(4, vi 0), (3, vr (some n13)), (2, vr (some n8)), (1, vr (some n3)), (0, vr (some 5))] dL_law_21 (Nat.le_of_ble_eq_true rfl) rfl ?_
  exact nd_loc [4, 3, 2, 1, 0] rfl (tL_law_23 l w hfl F d r F _ _ _ _ k_n3 k_n8 k_n13 _ hf)
