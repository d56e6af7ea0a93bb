set_option maxRecDepth 100000
def fX1_part_14 (F d : Nat) (this : Nat) (x1 : Int32) (x2 : Int32) (s0 : Int32) (h : Hp) : Option ((Int32 ⊕ Nat) × Hp) :=
  cx (fX1_need F d s0 h) fun _ h1 => (
  cx (fX1_known F d this x1 h1) fun v4 h3 => (
  if x2 = 0 then
  (nn v4 fun a12 => (
  some (.inl (gI h3 1700 a12), h3)))
  else
  (if x2 = 1 then
  (nn v4 fun a11 => (
  some (.inl (gI h3 1701 a11), h3)))
  else
  (if x2 = 2 then
  (nn v4 fun a10 => (
  some (.inl (gI h3 1703 a10), h3)))
  else
  (nn v4 fun a9 => (
  some (.inl (gI h3 1704 a9), h3)))))))
def fX1_part (F d : Nat) (this : Nat) (p0 : Int32) (p1 : Int32) (h : Hp) : Option ((Int32 ⊕ Nat) × Hp) :=
  ca (fX1_outside F d p1 0 3 h) fun v2 h1 => (
  if v2 = 0 then
  (fX1_part_14 F d this p0 p1 1 h1)
  else
  (fX1_part_14 F d this p0 p1 0 h1))
set_option maxHeartbeats 4000000 in
theorem tX1_part_14 (l : Launch) (w : Wd) (hfl : l.stackTraces = false) (F d : Nat) (r : (Int32 ⊕ Nat) × Hp) (this : Nat) (x1 : Int32) (x2 : Int32) (s0 : Int32) (k_this : nd_Kd this = 0) (h : Hp) (hf : fX1_part_14 F d this x1 x2 s0 h = some r) : nd_V l w yX1_part cX1_part 4 (some .int) 7 121 (rxi r) h 14 [(0, vr (some this)), (1, vi x1), (2, vi x2)] [vi s0] := by
  unfold fX1_part_14 at hf
  replace hf := cxE hf
  rcases hf with ⟨v2, h1, e_h1, hf⟩ | ⟨x_, h1, e_h1, rfl⟩
  rotate_left
  · exact nd_SvX [] (tX1_need l w hfl F d e_h1) rfl dX1_part_14 mw_X1_need (Or.inl q804) q805 (by omega) (by omega) (Nat.le_of_ble_eq_true rfl) (by decide)
  refine nd_Sv [] (tX1_need l w hfl F d e_h1) rfl dX1_part_14 mw_X1_need (Or.inl q804) q805 (by omega) (by omega) (Nat.le_of_ble_eq_true rfl) ?_
  refine nd_aload_n (j := 0) dX1_part_17 rfl rfl ?_
  refine nd_iload_n (j := 1) dX1_part_18 rfl rfl ?_
  replace hf := cxE hf
  rcases hf with ⟨v4, h3, e_h3, hf⟩ | ⟨x_, h3, e_h3, rfl⟩
  rotate_left
  · exact nd_VvX [] (tX1_known l w hfl F d k_this e_h3) rfl dX1_part_19 mw_X1_known (Or.inl q1301) k_this rfl q1303 qs27 (by omega) (by omega) (Nat.le_of_ble_eq_true rfl) (by decide)
  refine nd_Vr [] (tX1_known l w hfl F d k_this e_h3) rfl dX1_part_19 mw_X1_known (Or.inl q1301) k_this rfl q1303 qs27 (by omega) (by omega) (Nat.le_of_ble_eq_true rfl) (fun ok5 => ?_)
  have ok_v4 : ∀ b, v4 = some b → [13].contains (nd_Kd b) = true := fun b q => okT13 (ok5 b q)
  refine nd_astore_n [(3, vr v4), (0, vr (some this)), (1, vi x1), (2, vi x2)] dX1_part_22 rfl (Nat.le_of_ble_eq_true rfl) rfl ?_
  refine nd_iload_n (j := 3) dX1_part_23 rfl rfl ?_
  refine nd_if_ne (tgt := 34) dX1_part_24 (by decide) (fun c6 => ?_) (fun c6 => ?_)
  · replace hf := ifn c6 hf
    refine nd_iload_n (j := 3) dX1_part_34 rfl rfl ?_
    refine nd_iconst (v := 1) dX1_part_35 (by decide) ?_
    refine nd_icmp_ne (tgt := 46) dX1_part_36 (by decide) (fun c7 => ?_) (fun c7 => ?_)
    · replace hf := ifn c7 hf
      refine nd_iload_n (j := 3) dX1_part_46 rfl rfl ?_
      refine nd_iconst (v := 2) dX1_part_47 (by decide) ?_
      refine nd_icmp_ne (tgt := 58) dX1_part_48 (by decide) (fun c8 => ?_) (fun c8 => ?_)
      · replace hf := ifn c8 hf
        refine nd_aload_n (j := 0) dX1_part_58 rfl rfl ?_
        replace hf := nnE hf
        obtain ⟨a9, e_a9, hf⟩ := hf
        have k_a9 : nd_Kd a9 = 13 := nd_c1 (ok_v4 a9 e_a9)
        subst e_a9
        refine nd_getI (k := 4) dX1_part_59 k_a9 rfl (Nat.le_of_ble_eq_true rfl) (nd_flN q921) rfl ?_
        cases hf
        exact nd_iret (v := (gI h3 1704 a9)) dX1_part_62
      · replace hf := ifp c8 hf
        refine nd_aload_n (j := 0) dX1_part_51 rfl rfl ?_
        replace hf := nnE hf
        obtain ⟨a10, e_a10, hf⟩ := hf
        have k_a10 : nd_Kd a10 = 13 := nd_c1 (ok_v4 a10 e_a10)
        subst e_a10
        refine nd_getI (k := 3) dX1_part_52 k_a10 rfl (Nat.le_of_ble_eq_true rfl) (nd_flN q919) rfl ?_
        refine nd_goto (tgt := 62) dX1_part_55 (by decide) ?_
        cases hf
        exact nd_iret (v := (gI h3 1703 a10)) dX1_part_62
    · replace hf := ifp c7 hf
      refine nd_aload_n (j := 0) dX1_part_39 rfl rfl ?_
      replace hf := nnE hf
      obtain ⟨a11, e_a11, hf⟩ := hf
      have k_a11 : nd_Kd a11 = 13 := nd_c1 (ok_v4 a11 e_a11)
      subst e_a11
      refine nd_getI (k := 1) dX1_part_40 k_a11 rfl (Nat.le_of_ble_eq_true rfl) (nd_flN q913) rfl ?_
      refine nd_goto (tgt := 62) dX1_part_43 (by decide) ?_
      cases hf
      exact nd_iret (v := (gI h3 1701 a11)) dX1_part_62
  · replace hf := ifp c6 hf
    refine nd_aload_n (j := 0) dX1_part_27 rfl rfl ?_
    replace hf := nnE hf
    obtain ⟨a12, e_a12, hf⟩ := hf
    have k_a12 : nd_Kd a12 = 13 := nd_c1 (ok_v4 a12 e_a12)
    subst e_a12
    refine nd_getI (k := 0) dX1_part_28 k_a12 rfl (Nat.le_of_ble_eq_true rfl) (nd_flN q906) rfl ?_
    refine nd_goto (tgt := 62) dX1_part_31 (by decide) ?_
    cases hf
    exact nd_iret (v := (gI h3 1700 a12)) dX1_part_62
set_option maxHeartbeats 4000000 in
theorem tX1_part (l : Launch) (w : Wd) (hfl : l.stackTraces = false) (F d : Nat) {this : Nat} {p0 : Int32} {p1 : Int32} (k_this : nd_Kd this = 0) {h : Hp} {r : (Int32 ⊕ Nat) × Hp} (hf : fX1_part F d this p0 p1 h = some r) : nd_C l w yX1_part cX1_part 4 (some .int) 7 121 [vr (some this), vi p0, vi p1] h (rxi r) := by
  refine nd_start (as := [vr (some this), vi p0, vi p1]) hfl (by decide) (Nat.le_of_ble_eq_true rfl) ?_
  unfold fX1_part at hf
  refine nd_eqL (L' := [(0, vr (some this)), (1, vi p0), (2, vi p1)]) rfl ?_
  refine nd_iload_n (j := 2) dX1_part_0 rfl rfl ?_
  refine nd_iconst (v := 0) dX1_part_1 (by decide) ?_
  refine nd_iconst (v := 3) dX1_part_2 (by decide) ?_
  replace hf := caE hf
  obtain ⟨v2, h1, e_h1, hf⟩ := hf
  refine nd_Si [] (tX1_outside l w hfl F d e_h1) rfl dX1_part_3 mw_X1_outside (Or.inl q676) q516 (by omega) (by omega) (Nat.le_of_ble_eq_true rfl) ?_
  refine nd_if_ne (tgt := 13) dX1_part_6 (by decide) (fun c3 => ?_) (fun c3 => ?_)
  · replace hf := ifn c3 hf
    refine nd_iconst (v := 0) dX1_part_13 (by decide) ?_
    exact nd_loc [0, 1, 2] rfl (tX1_part_14 l w hfl F d r _ _ _ _ k_this _ hf)
  · replace hf := ifp c3 hf
    refine nd_iconst (v := 1) dX1_part_9 (by decide) ?_
    refine nd_goto (tgt := 14) dX1_part_10 (by decide) ?_
    exact nd_loc [0, 1, 2] rfl (tX1_part_14 l w hfl F d r _ _ _ _ k_this _ hf)
def fX1_parts (F d : Nat) (this : Nat) (h : Hp) : Option (Int32 × Hp) :=
  nn (gP h 104 this) fun a2 => (
  some ((gI h 305 a2), h))
set_option maxHeartbeats 4000000 in
theorem tX1_parts (l : Launch) (w : Wd) (hfl : l.stackTraces = false) (F d : Nat) {this : Nat} (k_this : nd_Kd this = 0) {h : Hp} {r : Int32 × Hp} (hf : fX1_parts F d this h = some r) : nd_C l w yX1_parts cX1_parts 1 (some .int) 0 0 [vr (some this)] h (.inl (some (vi r.1)), r.2) := by
  refine nd_start (as := [vr (some this)]) hfl (by decide) (Nat.le_of_ble_eq_true rfl) ?_
  unfold fX1_parts at hf
  refine nd_eqL (L' := [(0, vr (some this))]) rfl ?_
  refine nd_aload_n (j := 0) dX1_parts_0 rfl rfl ?_
  refine nd_getP (k := 4) dX1_parts_1 k_this rfl (Nat.le_of_ble_eq_true rfl) (nd_flO q288) rfl (fun ok1 => ?_)
  replace hf := nnE hf
  obtain ⟨a2, e_a2, hf⟩ := hf
  refine nd_topr e_a2.symm ?_
  have k_a2 : nd_Kd a2 = 2 := nd_c1 (ok1 a2 e_a2)
  refine nd_getI (k := 5) dX1_parts_4 k_a2 rfl (Nat.le_of_ble_eq_true rfl) (nd_flN q211) rfl ?_
  cases hf
  exact nd_iret (v := (gI h 305 a2)) dX1_parts_7
def fX1_put_28 (F d : Nat) : Nat → Nat → Int64 → Int32 → Hp → Option (Int32 × Hp)
  | 0, _, _, _, _ => none
  | n + 1, this, x1, x4, h =>
    if x4 < 0 then
    (some (1, h))
    else
    (nn (gP h 102 this) fun a3 => (
    ck (inb (gI h 103 this) (nd_Ln a3)) (
    bn (sA h a3 (Int32.toNatClampNeg (gI h 103 this)) (Int64.toInt32 ((x1 >>> (Int32.toInt64 (8 * x4) &&& 63)) &&& 255))) fun h5 => (
    bn (sI h5 103 this ((gI h5 103 this) + 1)) fun h6 => (
    bn (x4 + (-1)) fun v7 => (
    fX1_put_28 F d n this x1 v7 h6))))))
def fX1_put (F d : Nat) (this : Nat) (p0 : Int64) (p1 : Int32) (h : Hp) : Option (Int32 × Hp) :=
  ca (fX1_outside F d p1 1 8 h) fun v2 h1 => (
  if v2 = 0 then
  (if ((gI h1 103 this) + p1) ≤ 120 then
  (bn (p1 - 1) fun v5 => (
  fX1_put_28 F d F this p0 v5 h1))
  else
  (some (0, h1)))
  else
  (some (0, h1)))
set_option maxHeartbeats 4000000 in
theorem tX1_put_28 (l : Launch) (w : Wd) (hfl : l.stackTraces = false) (F d : Nat) (r : Int32 × Hp) : ∀ (n : Nat) (this : Nat) (x1 : Int64) (x4 : Int32) (k_this : nd_Kd this = 0) (h : Hp), fX1_put_28 F d n this x1 x4 h = some r → nd_V l w yX1_put cX1_put 5 (some .boolean) 1 22 (.inl (some (vi r.1)), r.2) h 28 [(0, vr (some this)), (1, vl x1), (4, vi x4)] [] := by
  intro n
  induction n with
  | zero => intro _ _ _ _ _ hf; cases hf
  | succ n ih =>
    intro this x1 x4 k_this h hf
    unfold fX1_put_28 at hf
    refine nd_iload (j := 2) dX1_put_28 rfl ?_
    refine nd_if_lt (tgt := 70) dX1_put_30 (by decide) (fun c1 => ?_) (fun c1 => ?_)
    · replace hf := ifp c1 hf
      refine nd_iconst (v := 1) dX1_put_70 (by decide) ?_
      cases hf
      exact nd_zret (v := 1) (by decide) dX1_put_71
    · replace hf := ifn c1 hf
      refine nd_aload_n (j := 0) dX1_put_33 rfl rfl ?_
      refine nd_getP (k := 2) dX1_put_34 k_this rfl (Nat.le_of_ble_eq_true rfl) (nd_flO q286) rfl (fun ok2 => ?_)
      replace hf := nnE hf
      obtain ⟨a3, e_a3, hf⟩ := hf
      refine nd_topr e_a3.symm ?_
      have k_a3 : nd_Kd a3 = 20 := nd_c1 (ok2 a3 e_a3)
      refine nd_aload_n (j := 0) dX1_put_37 rfl rfl ?_
      refine nd_getI (k := 3) dX1_put_38 k_this rfl (Nat.le_of_ble_eq_true rfl) (nd_flO q287) rfl ?_
      refine nd_lload_n (j := 1) dX1_put_41 rfl rfl ?_
      refine nd_bipush (v := 8) dX1_put_42 (by decide) ?_
      refine nd_iload (j := 2) dX1_put_44 rfl ?_
      refine nd_imul dX1_put_46 ?_
      refine nd_lshr dX1_put_47 ?_
      refine nd_ldc2 (v := 255) dX1_put_48 q677 ?_
      refine nd_land dX1_put_51 ?_
      refine nd_l2i dX1_put_52 ?_
      replace hf := ckE hf
      obtain ⟨c4, hf⟩ := hf
      refine nd_iast dX1_put_53 k_a3 c4 ?_
      replace hf := bnE hf
      obtain ⟨h5, e_h5, hf⟩ := hf
      refine nd_hp e_h5 ?_
      refine nd_aload_n (j := 0) dX1_put_54 rfl rfl ?_
      refine nd_dup dX1_put_55 rfl ?_
      refine nd_getI (k := 3) dX1_put_56 k_this rfl (Nat.le_of_ble_eq_true rfl) (nd_flO q287) rfl ?_
      refine nd_iconst (v := 1) dX1_put_59 (by decide) ?_
      refine nd_iadd dX1_put_60 ?_
      refine nd_putN (k := 3) dX1_put_61 k_this rfl (Nat.le_of_ble_eq_true rfl) (nd_flO q287) rfl rfl rfl ?_
      replace hf := bnE hf
      obtain ⟨h6, e_h6, hf⟩ := hf
      refine nd_hp e_h6 ?_
      replace hf := bnE hf
      obtain ⟨v7, e_v7, hf⟩ := hf
      refine nd_iinc (v := v7) (j := 2) [(4, vi v7), (0, vr (some this)), (1, vl x1)] dX1_put_64 rfl (by rw [e_v7]; rfl) (Nat.le_of_ble_eq_true rfl) rfl ?_
      refine nd_goto (tgt := 28) dX1_put_67 (by decide) ?_
      exact nd_loc [1, 2, 0] rfl (ih _ _ _ k_this _ hf)
set_option maxHeartbeats 4000000 in
theorem tX1_put (l : Launch) (w : Wd) (hfl : l.stackTraces = false) (F d : Nat) {this : Nat} {p0 : Int64} {p1 : Int32} (k_this : nd_Kd this = 0) {h : Hp} {r : Int32 × Hp} (hf : fX1_put F d this p0 p1 h = some r) : nd_C l w yX1_put cX1_put 5 (some .boolean) 1 22 [vr (some this), vl p0, vi p1] h (.inl (some (vi r.1)), r.2) := by
  refine nd_start (as := [vr (some this), vl p0, vi p1]) hfl (by decide) (Nat.le_of_ble_eq_true rfl) ?_
  unfold fX1_put at hf
  refine nd_eqL (L' := [(0, vr (some this)), (1, vl p0), (3, vi p1)]) rfl ?_
  refine nd_iload_n (j := 2) dX1_put_0 rfl rfl ?_
  refine nd_iconst (v := 1) dX1_put_1 (by decide) ?_
  refine nd_bipush (v := 8) dX1_put_2 (by decide) ?_
  replace hf := caE hf
  obtain ⟨v2, h1, e_h1, hf⟩ := hf
  refine nd_Si [] (tX1_outside l w hfl F d e_h1) rfl dX1_put_4 mw_X1_outside (Or.inl q676) q516 (by omega) (by omega) (Nat.le_of_ble_eq_true rfl) ?_
  refine nd_if_ne (tgt := 21) dX1_put_7 (by decide) (fun c3 => ?_) (fun c3 => ?_)
  · replace hf := ifn c3 hf
    refine nd_iconst (v := 0) dX1_put_21 (by decide) ?_
    cases hf
    exact nd_zret (v := 0) (by decide) dX1_put_22
  · replace hf := ifp c3 hf
    refine nd_aload_n (j := 0) dX1_put_10 rfl rfl ?_
    refine nd_getI (k := 3) dX1_put_11 k_this rfl (Nat.le_of_ble_eq_true rfl) (nd_flO q287) rfl ?_
    refine nd_iload_n (j := 2) dX1_put_14 rfl rfl ?_
    refine nd_iadd dX1_put_15 ?_
    refine nd_bipush (v := 120) dX1_put_16 (by decide) ?_
    refine nd_icmp_le (tgt := 23) dX1_put_18 (by decide) (fun c4 => ?_) (fun c4 => ?_)
    · replace hf := ifp c4 hf
      refine nd_iload_n (j := 2) dX1_put_23 rfl rfl ?_
      refine nd_iconst (v := 1) dX1_put_24 (by decide) ?_
      refine nd_isub dX1_put_25 ?_
      replace hf := bnE hf
      obtain ⟨v5, e_v5, hf⟩ := hf
      refine nd_top e_v5 ?_
      refine nd_istore [(4, vi v5), (0, vr (some this)), (1, vl p0), (3, vi p1)] dX1_put_26 (Nat.le_of_ble_eq_true rfl) rfl ?_
      exact nd_loc [1, 2, 0] rfl (tX1_put_28 l w hfl F d r F _ _ _ k_this _ hf)
    · replace hf := ifn c4 hf
      refine nd_iconst (v := 0) dX1_put_21 (by decide) ?_
      cases hf
      exact nd_zret (v := 0) (by decide) dX1_put_22
def v_pack (F : Nat) : Nat → Nat → Nat → Nat → Hp → Option (Hp)
  | 0, _, _, _, _ => none
  | d + 1, b, p0, p1, h =>
    if nd_Kd b = 6 then fX9_pack F d b p0 p1 h
    else if nd_Kd b = 7 then fX11_pack F d (v_pack F d) b p0 p1 h
    else if nd_Kd b = 8 then fX12_pack F d (v_pack F d) b p0 p1 h
    else if nd_Kd b = 9 then fX13_pack F d b p0 p1 h
    else if nd_Kd b = 11 then fX15_pack F d (v_pack F d) b p0 p1 h
    else if nd_Kd b = 12 then fX16_pack F d (v_pack F d) b p0 p1 h
    else none
set_option maxHeartbeats 4000000 in
theorem tv_pack (l : Launch) (w : Wd) (hfl : l.stackTraces = false) (F : Nat) : ∀ (d : Nat) {b : Nat} {p0 : Nat} {p1 : Nat} (k_b : [6, 7, 8, 9, 11, 12].contains (nd_Kd b) = true) (k_p0 : nd_Kd p0 = 13) (k_p1 : nd_Kd p1 = 4) {h : Hp} {r : Hp}, v_pack F d b p0 p1 h = some r → nc_pack l w b (1 + 8 * d) (30 + 400 * d) [vr (some b), vr (some p0), vr (some p1)] h (.inl none, r) := by
  intro d
  induction d with
  | zero => intro b p0 p1 k_b k_p0 k_p1 h r hf; cases hf
  | succ d ih =>
    intro b p0 p1 k_b k_p0 k_p1 h r hf
    unfold v_pack at hf
    refine ⟨fun e_ => ?_, fun e_ => ?_, fun e_ => ?_, fun e_ => ?_, fun e_ => ?_, fun e_ => ?_⟩
    · rw [if_pos e_] at hf
      exact nd_C.room (tX9_pack l w hfl F d e_ k_p0 k_p1 hf) (by omega) (by omega)
    · rw [if_neg (by omega)] at hf; rw [if_pos e_] at hf
      exact nd_C.room (tX11_pack l w hfl F d (v_pack F d) (ih) e_ k_p0 k_p1 hf) (by omega) (by omega)
    · rw [if_neg (by omega)] at hf; rw [if_neg (by omega)] at hf; rw [if_pos e_] at hf
      exact nd_C.room (tX12_pack l w hfl F d (v_pack F d) (ih) e_ k_p0 k_p1 hf) (by omega) (by omega)
    · rw [if_neg (by omega)] at hf; rw [if_neg (by omega)] at hf; rw [if_neg (by omega)] at hf; rw [if_pos e_] at hf
      exact nd_C.room (tX13_pack l w hfl F d e_ k_p0 k_p1 hf) (by omega) (by omega)
    · rw [if_neg (by omega)] at hf; rw [if_neg (by omega)] at hf; rw [if_neg (by omega)] at hf; rw [if_neg (by omega)] at hf; rw [if_pos e_] at hf
      exact nd_C.room (tX15_pack l w hfl F d (v_pack F d) (ih) e_ k_p0 k_p1 hf) (by omega) (by omega)
    · rw [if_neg (by omega)] at hf; rw [if_neg (by omega)] at hf; rw [if_neg (by omega)] at hf; rw [if_neg (by omega)] at hf; rw [if_neg (by omega)] at hf; rw [if_pos e_] at hf
      exact nd_C.room (tX16_pack l w hfl F d (v_pack F d) (ih) e_ k_p0 k_p1 hf) (by omega) (by omega)
def v_write (F : Nat) : Nat → Nat → Nat → Nat → Int32 → Hp → Option (Hp)
  | 0, _, _, _, _, _ => none
  | d + 1, b, p0, p1, p2, h =>
    if nd_Kd b = 6 then fX8_write F d b p0 p1 p2 h
    else if nd_Kd b = 7 then fX11_write F d (v_write F d) b p0 p1 p2 h
    else if nd_Kd b = 8 then fX12_write F d (v_write F d) b p0 p1 p2 h
    else if nd_Kd b = 9 then fX8_write F d b p0 p1 p2 h
    else if nd_Kd b = 11 then fX15_write F d (v_write F d) b p0 p1 p2 h
    else if nd_Kd b = 12 then fX16_write F d (v_write F d) b p0 p1 p2 h
    else none
set_option maxHeartbeats 4000000 in
theorem tv_write (l : Launch) (w : Wd) (hfl : l.stackTraces = false) (F : Nat) : ∀ (d : Nat) {b : Nat} {p0 : Nat} {p1 : Nat} {p2 : Int32} (k_b : [6, 7, 8, 9, 11, 12].contains (nd_Kd b) = true) (k_p0 : nd_Kd p0 = 13) (k_p1 : nd_Kd p1 = 4) {h : Hp} {r : Hp}, v_write F d b p0 p1 p2 h = some r → nc_write l w b (1 + 8 * d) (30 + 400 * d) [vr (some b), vr (some p0), vr (some p1), vi p2] h (.inl none, r) := by
  intro d
  induction d with
  | zero => intro b p0 p1 p2 k_b k_p0 k_p1 h r hf; cases hf
  | succ d ih =>
    intro b p0 p1 p2 k_b k_p0 k_p1 h r hf
    unfold v_write at hf
    refine ⟨fun e_ => ?_, fun e_ => ?_, fun e_ => ?_, fun e_ => ?_, fun e_ => ?_, fun e_ => ?_⟩
    · rw [if_pos e_] at hf
      exact nd_C.room (tX8_write l w hfl F d (by rw [e_]; rfl) k_p0 k_p1 hf) (by omega) (by omega)
    · rw [if_neg (by omega)] at hf; rw [if_pos e_] at hf
      exact nd_C.room (tX11_write l w hfl F d (v_write F d) (ih) e_ k_p0 k_p1 hf) (by omega) (by omega)
    · rw [if_neg (by omega)] at hf; rw [if_neg (by omega)] at hf; rw [if_pos e_] at hf
      exact nd_C.room (tX12_write l w hfl F d (v_write F d) (ih) e_ k_p0 k_p1 hf) (by omega) (by omega)
    · rw [if_neg (by omega)] at hf; rw [if_neg (by omega)] at hf; rw [if_neg (by omega)] at hf; rw [if_pos e_] at hf
      exact nd_C.room (tX8_write l w hfl F d (by rw [e_]; rfl) k_p0 k_p1 hf) (by omega) (by omega)
    · rw [if_neg (by omega)] at hf; rw [if_neg (by omega)] at hf; rw [if_neg (by omega)] at hf; rw [if_neg (by omega)] at hf; rw [if_pos e_] at hf
      exact nd_C.room (tX15_write l w hfl F d (v_write F d) (ih) e_ k_p0 k_p1 hf) (by omega) (by omega)
    · rw [if_neg (by omega)] at hf; rw [if_neg (by omega)] at hf; rw [if_neg (by omega)] at hf; rw [if_neg (by omega)] at hf; rw [if_neg (by omega)] at hf; rw [if_pos e_] at hf
      exact nd_C.room (tX16_write l w hfl F d (v_write F d) (ih) e_ k_p0 k_p1 hf) (by omega) (by omega)
def fX1_write_56 (F d : Nat) (this : Nat) (h : Hp) : Option (Hp) :=
  nn (gP h 107 this) fun a2 => (
  cv (fX5_align F d a2 h) fun h3 => (
  some h3))
def fX1_write (F d : Nat) (this : Nat) (p0 : Nat) (p1 : Nat) (p2 : Int32) (h : Hp) : Option (Hp) :=
  nn (gP h 107 this) fun a2 => (
  nn (gP h 105 this) fun a4 => (
  cv (fX5_begin F d a2 a4 h) fun h5 => (
  if p2 = 1 then
  (nn (gP h5 107 this) fun a20 => (
  cv (v_write F d p0 p1 a20 (-1) h5) fun h21 => (
  some h21)))
  else
  (nn (gP h5 107 this) fun a9 => (
  cv (v_pack F d p0 p1 a9 h5) fun h10 => (
  nn (gP h10 107 this) fun a13 => (
  if (gI h10 501 a13) = 0 then
  (nn (gP h10 107 this) fun a16 => (
  cv (fX5_put F d a16 0 8 h10) fun h17 => (
  fX1_write_56 F d this h17)))
  else
  (fX1_write_56 F d this h10))))))))
set_option maxHeartbeats 4000000 in
theorem tX1_write_56 (l : Launch) (w : Wd) (hfl : l.stackTraces = false) (F d : Nat) (r : Hp) (this : Nat) (k_this : nd_Kd this = 0) (h : Hp) (hf : fX1_write_56 F d this h = some r) : nd_V l w yX1_write cX1_write 4 none (2 + 8 * d) (54 + 400 * d) (.inl none, r) h 56 [(0, vr (some this))] [] := by
  unfold fX1_write_56 at hf
  refine nd_aload_n (j := 0) dX1_write_56 rfl rfl ?_
  refine nd_getP (k := 7) dX1_write_57 k_this rfl (Nat.le_of_ble_eq_true rfl) (nd_flO q291) rfl (fun ok1 => ?_)
  replace hf := nnE hf
  obtain ⟨a2, e_a2, hf⟩ := hf
  refine nd_topr e_a2.symm ?_
  have k_a2 : nd_Kd a2 = 4 := nd_c1 (ok1 a2 e_a2)
  replace hf := cvE hf
  obtain ⟨h3, e_h3, hf⟩ := hf
  refine nd_Vv [] (tX5_align l w hfl F d k_a2 e_h3) rfl dX1_write_60 mw_X5_align (Or.inl q1269) k_a2 rfl q1231 q1232 (by omega) (by omega) (Nat.le_of_ble_eq_true rfl) ?_
  cases hf
  exact nd_vret dX1_write_63
set_option maxHeartbeats 4000000 in
theorem tX1_write (l : Launch) (w : Wd) (hfl : l.stackTraces = false) (F d : Nat) {this : Nat} {p0 : Nat} {p1 : Nat} {p2 : Int32} (k_this : nd_Kd this = 0) (k_p0 : [6, 7, 8, 9, 11, 12].contains (nd_Kd p0) = true) (k_p1 : nd_Kd p1 = 13) {h : Hp} {r : Hp} (hf : fX1_write F d this p0 p1 p2 h = some r) : nd_C l w yX1_write cX1_write 4 none (2 + 8 * d) (54 + 400 * d) [vr (some this), vr (some p0), vr (some p1), vi p2] h (.inl none, r) := by
  refine nd_start (as := [vr (some this), vr (some p0), vr (some p1), vi p2]) hfl (by decide) (Nat.le_of_ble_eq_true rfl) ?_
  unfold fX1_write at hf
  refine nd_eqL (L' := [(0, vr (some this)), (1, vr (some p0)), (2, vr (some p1)), (3, vi p2)]) rfl ?_
  refine nd_aload_n (j := 0) dX1_write_0 rfl rfl ?_
  refine nd_getP (k := 7) dX1_write_1 k_this rfl (Nat.le_of_ble_eq_true rfl) (nd_flO q291) rfl (fun ok1 => ?_)
  replace hf := nnE hf
  obtain ⟨a2, e_a2, hf⟩ := hf
  refine nd_topr e_a2.symm ?_
  have k_a2 : nd_Kd a2 = 4 := nd_c1 (ok1 a2 e_a2)
  refine nd_aload_n (j := 0) dX1_write_4 rfl rfl ?_
  refine nd_getP (k := 5) dX1_write_5 k_this rfl (Nat.le_of_ble_eq_true rfl) (nd_flO q289) rfl (fun ok3 => ?_)
  replace hf := nnE hf
  obtain ⟨a4, e_a4, hf⟩ := hf
  refine nd_topr e_a4.symm ?_
  have k_a4 : nd_Kd a4 = 2 := nd_c1 (ok3 a4 e_a4)
  replace hf := cvE hf
  obtain ⟨h5, e_h5, hf⟩ := hf
  refine nd_Vv [] (tX5_begin l w hfl F d k_a2 k_a4 e_h5) rfl dX1_write_8 mw_X5_begin (Or.inl q1109) k_a2 rfl q1110 q1111 (by omega) (by omega) (Nat.le_of_ble_eq_true rfl) ?_
  refine nd_iload_n (j := 3) dX1_write_11 rfl rfl ?_
  refine nd_iconst (v := 1) dX1_write_12 (by decide) ?_
  refine nd_icmp_ne (tgt := 27) dX1_write_13 (by decide) (fun c7 => ?_) (fun c7 => ?_)
  · replace hf := ifn c7 hf
    refine nd_aload_n (j := 1) dX1_write_27 rfl rfl ?_
    refine nd_aload_n (j := 2) dX1_write_28 rfl rfl ?_
    refine nd_aload_n (j := 0) dX1_write_29 rfl rfl ?_
    refine nd_getP (k := 7) dX1_write_30 k_this rfl (Nat.le_of_ble_eq_true rfl) (nd_flO q291) rfl (fun ok8 => ?_)
    replace hf := nnE hf
    obtain ⟨a9, e_a9, hf⟩ := hf
    refine nd_topr e_a9.symm ?_
    have k_a9 : nd_Kd a9 = 4 := nd_c1 (ok8 a9 e_a9)
    replace hf := cvE hf
    obtain ⟨h10, e_h10, hf⟩ := hf
    refine nd_v_pack [] (tv_pack l w hfl F d k_p0 k_p1 k_a9 e_h10) rfl dX1_write_33 q1220 k_p0 (by omega) (by omega) (Nat.le_of_ble_eq_true rfl) ?_
    refine nd_aload_n (j := 0) dX1_write_36 rfl rfl ?_
    refine nd_getP (k := 7) dX1_write_37 k_this rfl (Nat.le_of_ble_eq_true rfl) (nd_flO q291) rfl (fun ok12 => ?_)
    replace hf := nnE hf
    obtain ⟨a13, e_a13, hf⟩ := hf
    refine nd_topr e_a13.symm ?_
    have k_a13 : nd_Kd a13 = 4 := nd_c1 (ok12 a13 e_a13)
    refine nd_getI (k := 1) dX1_write_40 k_a13 rfl (Nat.le_of_ble_eq_true rfl) (nd_flN q273) rfl ?_
    refine nd_if_ne (tgt := 56) dX1_write_43 (by decide) (fun c14 => ?_) (fun c14 => ?_)
    · replace hf := ifn c14 hf
      exact nd_loc [0] rfl (tX1_write_56 l w hfl F d r _ k_this _ hf)
    · replace hf := ifp c14 hf
      refine nd_aload_n (j := 0) dX1_write_46 rfl rfl ?_
      refine nd_getP (k := 7) dX1_write_47 k_this rfl (Nat.le_of_ble_eq_true rfl) (nd_flO q291) rfl (fun ok15 => ?_)
      replace hf := nnE hf
      obtain ⟨a16, e_a16, hf⟩ := hf
      refine nd_topr e_a16.symm ?_
      have k_a16 : nd_Kd a16 = 4 := nd_c1 (ok15 a16 e_a16)
      refine nd_iconst (v := 0) dX1_write_50 (by decide) ?_
      refine nd_bipush (v := 8) dX1_write_51 (by decide) ?_
      replace hf := cvE hf
      obtain ⟨h17, e_h17, hf⟩ := hf
      refine nd_Vv [] (tX5_put l w hfl F d k_a16 e_h17) rfl dX1_write_53 mw_X5_put (Or.inl q1268) k_a16 rfl q1140 q1141 (by omega) (by omega) (Nat.le_of_ble_eq_true rfl) ?_
      exact nd_loc [0] rfl (tX1_write_56 l w hfl F d r _ k_this _ hf)
  · replace hf := ifp c7 hf
    refine nd_aload_n (j := 1) dX1_write_16 rfl rfl ?_
    refine nd_aload_n (j := 2) dX1_write_17 rfl rfl ?_
    refine nd_aload_n (j := 0) dX1_write_18 rfl rfl ?_
    refine nd_getP (k := 7) dX1_write_19 k_this rfl (Nat.le_of_ble_eq_true rfl) (nd_flO q291) rfl (fun ok19 => ?_)
    replace hf := nnE hf
    obtain ⟨a20, e_a20, hf⟩ := hf
    refine nd_topr e_a20.symm ?_
    have k_a20 : nd_Kd a20 = 4 := nd_c1 (ok19 a20 e_a20)
    refine nd_iconst (v := (-1)) dX1_write_22 (by decide) ?_
    replace hf := cvE hf
    obtain ⟨h21, e_h21, hf⟩ := hf
    refine nd_v_write [] (tv_write l w hfl F d k_p0 k_p1 k_a20 e_h21) rfl dX1_write_23 q1113 k_p0 (by omega) (by omega) (Nat.le_of_ble_eq_true rfl) ?_
    cases hf
    exact nd_vret dX1_write_26
def v_read (F : Nat) : Nat → Nat → Nat → Int32 → Hp → Option (Option Nat × Hp)
  | 0, _, _, _, _ => none
  | d + 1, b, p0, p1, h =>
    if nd_Kd b = 6 then fX8_read F d b p0 p1 h
    else if nd_Kd b = 7 then fX11_read F d (v_read F d) b p0 p1 h
    else if nd_Kd b = 8 then fX12_read F d (v_read F d) b p0 p1 h
    else if nd_Kd b = 9 then fX8_read F d b p0 p1 h
    else if nd_Kd b = 11 then fX15_read F d (v_read F d) b p0 p1 h
    else if nd_Kd b = 12 then fX16_read F d (v_read F d) b p0 p1 h
    else none
set_option maxHeartbeats 4000000 in
theorem tv_read (l : Launch) (w : Wd) (hfl : l.stackTraces = false) (F : Nat) : ∀ (d : Nat) {b : Nat} {p0 : Nat} {p1 : Int32} (k_b : [6, 7, 8, 9, 11, 12].contains (nd_Kd b) = true) (k_p0 : nd_Kd p0 = 3) {h : Hp} {r : Option Nat × Hp}, v_read F d b p0 p1 h = some r → nc_read l w b (1 + 8 * d) (30 + 400 * d) [vr (some b), vr (some p0), vi p1] h (.inl (some (vr r.1)), r.2) := by
  intro d
  induction d with
  | zero => intro b p0 p1 k_b k_p0 h r hf; cases hf
  | succ d ih =>
    intro b p0 p1 k_b k_p0 h r hf
    unfold v_read at hf
    refine ⟨fun e_ => ?_, fun e_ => ?_, fun e_ => ?_, fun e_ => ?_, fun e_ => ?_, fun e_ => ?_⟩
    · rw [if_pos e_] at hf
      exact nd_C.room (tX8_read l w hfl F d (by rw [e_]; rfl) k_p0 hf) (by omega) (by omega)
    · rw [if_neg (by omega)] at hf; rw [if_pos e_] at hf
      exact nd_C.room (tX11_read l w hfl F d (v_read F d) (ih) e_ k_p0 hf) (by omega) (by omega)
    · rw [if_neg (by omega)] at hf; rw [if_neg (by omega)] at hf; rw [if_pos e_] at hf
      exact nd_C.room (tX12_read l w hfl F d (v_read F d) (ih) e_ k_p0 hf) (by omega) (by omega)
    · rw [if_neg (by omega)] at hf; rw [if_neg (by omega)] at hf; rw [if_neg (by omega)] at hf; rw [if_pos e_] at hf
      exact nd_C.room (tX8_read l w hfl F d (by rw [e_]; rfl) k_p0 hf) (by omega) (by omega)
    · rw [if_neg (by omega)] at hf; rw [if_neg (by omega)] at hf; rw [if_neg (by omega)] at hf; rw [if_neg (by omega)] at hf; rw [if_pos e_] at hf
      exact nd_C.room (tX15_read l w hfl F d (v_read F d) (ih) e_ k_p0 hf) (by omega) (by omega)
    · rw [if_neg (by omega)] at hf; rw [if_neg (by omega)] at hf; rw [if_neg (by omega)] at hf; rw [if_neg (by omega)] at hf; rw [if_neg (by omega)] at hf; rw [if_pos e_] at hf
      exact nd_C.room (tX16_read l w hfl F d (v_read F d) (ih) e_ k_p0 hf) (by omega) (by omega)
def v_unpack (F : Nat) : Nat → Nat → Nat → Hp → Option (Option Nat × Hp)
  | 0, _, _, _ => none
  | d + 1, b, p0, h =>
    if nd_Kd b = 6 then fX9_unpack F d b p0 h
    else if nd_Kd b = 7 then fX11_unpack F d (v_unpack F d) b p0 h
    else if nd_Kd b = 8 then fX12_unpack F d (v_unpack F d) b p0 h
    else if nd_Kd b = 9 then fX13_unpack F d b p0 h
    else if nd_Kd b = 11 then fX15_unpack F d (v_unpack F d) b p0 h
    else if nd_Kd b = 12 then fX16_unpack F d (v_unpack F d) b p0 h
    else none
set_option maxHeartbeats 4000000 in
theorem tv_unpack (l : Launch) (w : Wd) (hfl : l.stackTraces = false) (F : Nat) : ∀ (d : Nat) {b : Nat} {p0 : Nat} (k_b : [6, 7, 8, 9, 11, 12].contains (nd_Kd b) = true) (k_p0 : nd_Kd p0 = 3) {h : Hp} {r : Option Nat × Hp}, v_unpack F d b p0 h = some r → nc_unpack l w b (1 + 8 * d) (30 + 400 * d) [vr (some b), vr (some p0)] h (.inl (some (vr r.1)), r.2) := by
  intro d
  induction d with
  | zero => intro b p0 k_b k_p0 h r hf; cases hf
  | succ d ih =>
    intro b p0 k_b k_p0 h r hf
    unfold v_unpack at hf
    refine ⟨fun e_ => ?_, fun e_ => ?_, fun e_ => ?_, fun e_ => ?_, fun e_ => ?_, fun e_ => ?_⟩
    · rw [if_pos e_] at hf
      exact nd_C.room (tX9_unpack l w hfl F d e_ k_p0 hf) (by omega) (by omega)
    · rw [if_neg (by omega)] at hf; rw [if_pos e_] at hf
      exact nd_C.room (tX11_unpack l w hfl F d (v_unpack F d) (ih) e_ k_p0 hf) (by omega) (by omega)
    · rw [if_neg (by omega)] at hf; rw [if_neg (by omega)] at hf; rw [if_pos e_] at hf
      exact nd_C.room (tX12_unpack l w hfl F d (v_unpack F d) (ih) e_ k_p0 hf) (by omega) (by omega)
    · rw [if_neg (by omega)] at hf; rw [if_neg (by omega)] at hf; rw [if_neg (by omega)] at hf; rw [if_pos e_] at hf
      exact nd_C.room (tX13_unpack l w hfl F d e_ k_p0 hf) (by omega) (by omega)
    · rw [if_neg (by omega)] at hf; rw [if_neg (by omega)] at hf; rw [if_neg (by omega)] at hf; rw [if_neg (by omega)] at hf; rw [if_pos e_] at hf
      exact nd_C.room (tX15_unpack l w hfl F d (v_unpack F d) (ih) e_ k_p0 hf) (by omega) (by omega)
    · rw [if_neg (by omega)] at hf; rw [if_neg (by omega)] at hf; rw [if_neg (by omega)] at hf; rw [if_neg (by omega)] at hf; rw [if_neg (by omega)] at hf; rw [if_pos e_] at hf
      exact nd_C.room (tX16_unpack l w hfl F d (v_unpack F d) (ih) e_ k_p0 hf) (by omega) (by omega)
def fX1_read_170 (F d : Nat) (x4 : Nat) (x5 : Int32) (h : Hp) : Option (Option Nat × Hp) :=
  if x5 = 0 then
  (some (none, h))
  else
  (some ((some x4), h))
def fX1_read_162 (F d : Nat) (k_121 : Nat → Int32 → Nat → Int32 → Int32 → Hp → Option (Option Nat × Hp)) (this : Nat) (x2 : Int32) (x4 : Nat) (x6 : Int32) (s0 : Int32) (h : Hp) : Option (Option Nat × Hp) :=
  bn (x6 + 1) fun v1 => (
  k_121 this x2 x4 s0 v1 h)
def fX1_read_121 (F d : Nat) : Nat → Nat → Int32 → Nat → Int32 → Int32 → Hp → Option (Option Nat × Hp)
  | 0, _, _, _, _, _, _ => none
  | n + 1, this, x2, x4, x5, x6, h =>
    if (gI h 103 this) ≤ x6 then
    (fX1_read_170 F d x4 x5 h)
    else
    (if x5 = 0 then
    (fX1_read_170 F d x4 x5 h)
    else
    (nn (gP h 107 this) fun a4 => (
    nn (gP h 500 a4) fun a6 => (
    ck (inb (x6 - x2) (nd_Ln a6)) (
    nn (gP h 102 this) fun a9 => (
    ck (inb x6 (nd_Ln a9)) (
    if (gA h a6 (Int32.toNatClampNeg (x6 - x2))) = (gA h a9 (Int32.toNatClampNeg x6)) then
    (fX1_read_162 F d (fX1_read_121 F d n) this x2 x4 x6 1 h)
    else
    (fX1_read_162 F d (fX1_read_121 F d n) this x2 x4 x6 0 h))))))))
def fX1_read_116 (F d : Nat) (this : Nat) (x2 : Int32) (x4 : Nat) (s0 : Int32) (h : Hp) : Option (Option Nat × Hp) :=
  fX1_read_121 F d F this x2 x4 s0 x2 h
def fX1_read_80 (F d : Nat) (this : Nat) (x1 : Nat) (x2 : Int32) (x3 : Int32) (x4 : Nat) (h : Hp) : Option (Option Nat × Hp) :=
  if x3 = 0 then
  (some ((some x4), h))
  else
  (cv (fX1_write F d this x1 x4 x3 h) fun h2 => (
  nn (gP h2 107 this) fun a5 => (
  ca (fX5_size F d a5 h2) fun v7 h6 => (
  if v7 = ((gI h6 103 this) - x2) then
  (fX1_read_116 F d this x2 x4 1 h6)
  else
  (fX1_read_116 F d this x2 x4 0 h6)))))
def fX1_read_52 (F d : Nat) (this : Nat) (x1 : Nat) (x2 : Int32) (x3 : Int32) (s0 : Option Nat) (h : Hp) : Option (Option Nat × Hp) :=
  oc s0
  (some (none, h))
  (fun a1 =>
  if x3 = 2 then
  (fX1_read_80 F d this x1 x2 x3 a1 h)
  else
  (nn (gP h 106 this) fun a4 => (
  if (gI h 401 a4) = (gI h 103 this) then
  (fX1_read_80 F d this x1 x2 x3 a1 h)
  else
  (some (none, h)))))
def fX1_read (F d : Nat) (this : Nat) (p0 : Nat) (p1 : Int32) (p2 : Int32) (h : Hp) : Option (Option Nat × Hp) :=
  nn (gP h 105 this) fun a2 => (
  cv (fX3_clear F d a2 h) fun h3 => (
  nn (gP h3 106 this) fun a6 => (
  nn (gP h3 102 this) fun a8 => (
  nn (gP h3 105 this) fun a10 => (
  cv (fX4_begin F d a6 a8 p1 (gI h3 103 this) a10 h3) fun h11 => (
  if p2 = 2 then
  (nn (gP h11 106 this) fun a20 => (
  ca (v_unpack F d p0 a20 h11) fun v22 h21 => (
  fX1_read_52 F d this p0 p1 p2 v22 h21)))
  else
  (nn (gP h11 106 this) fun a15 => (
  ca (v_read F d p0 a15 (-1) h11) fun v17 h16 => (
  fX1_read_52 F d this p0 p1 p2 v17 h16)))))))))
set_option maxHeartbeats 4000000 in
theorem tX1_read_170 (l : Launch) (w : Wd) (hfl : l.stackTraces = false) (F d : Nat) (r : Option Nat × Hp) (x4 : Nat) (x5 : Int32) (k_x4 : nd_Kd x4 = 13) (h : Hp) (hf : fX1_read_170 F d x4 x5 h = some r) : nd_V l w yX1_read cX1_read 7 (some (.object "NotationDesk$Part")) (3 + 8 * d) (77 + 400 * d) (.inl (some (vr r.1)), r.2) h 170 [(4, vr (some x4)), (5, vi x5)] [] := by
  unfold fX1_read_170 at hf
  refine nd_iload (j := 1) dX1_read_170 rfl ?_
  refine nd_if_eq (tgt := 180) dX1_read_172 (by decide) (fun c1 => ?_) (fun c1 => ?_)
  · replace hf := ifp c1 hf
    refine nd_null dX1_read_180 ?_
    cases hf
    exact nd_aret (fun b e => by cases e) dX1_read_181
  · replace hf := ifn c1 hf
    refine nd_aload (j := 0) dX1_read_175 rfl ?_
    refine nd_goto (tgt := 181) dX1_read_177 (by decide) ?_
    cases hf
    exact nd_aret (fun b e => by cases e; exact okT13' (by rw [k_x4]; rfl)) dX1_read_181
set_option maxHeartbeats 4000000 in
theorem tX1_read_162 (l : Launch) (w : Wd) (hfl : l.stackTraces = false) (F d : Nat) (r : Option Nat × Hp) (k_121 : Nat → Int32 → Nat → Int32 → Int32 → Hp → Option (Option Nat × Hp)) (hk_121 : ∀ (this : Nat) (x2 : Int32) (x4 : Nat) (x5 : Int32) (x6 : Int32) (k_this : nd_Kd this = 0) (k_x4 : nd_Kd x4 = 13) (h : Hp), k_121 this x2 x4 x5 x6 h = some r → nd_V l w yX1_read cX1_read 7 (some (.object "NotationDesk$Part")) (3 + 8 * d) (77 + 400 * d) (.inl (some (vr r.1)), r.2) h 121 [(0, vr (some this)), (2, vi x2), (4, vr (some x4)), (5, vi x5), (6, vi x6)] []) (this : Nat) (x2 : Int32) (x4 : Nat) (x6 : Int32) (s0 : Int32) (k_this : nd_Kd this = 0) (k_x4 : nd_Kd x4 = 13) (h : Hp) (hf : fX1_read_162 F d k_121 this x2 x4 x6 s0 h = some r) : nd_V l w yX1_read cX1_read 7 (some (.object "NotationDesk$Part")) (3 + 8 * d) (77 + 400 * d) (.inl (some (vr r.1)), r.2) h 162 [(0, vr (some this)), (2, vi x2), (4, vr (some x4)), (6, vi x6)] [vi s0] := by
  unfold fX1_read_162 at hf
  refine nd_istore [(5, vi s0), (0, vr (some this)), (2, vi x2), (4, vr (some x4)), (6, vi x6)] dX1_read_162 (Nat.le_of_ble_eq_true rfl) rfl ?_
  replace hf := bnE hf
  obtain ⟨v1, e_v1, hf⟩ := hf
  refine nd_iinc (v := v1) (j := 4) [(6, vi v1), (5, vi s0), (0, vr (some this)), (2, vi x2), (4, vr (some x4))] dX1_read_164 rfl (by rw [e_v1]; rfl) (Nat.le_of_ble_eq_true rfl) rfl ?_
  refine nd_goto (tgt := 121) dX1_read_167 (by decide) ?_
  exact nd_loc [2, 3, 4, 1, 0] rfl (hk_121 _ _ _ _ _ k_this k_x4 _ hf)
set_option maxHeartbeats 4000000 in
theorem tX1_read_121 (l : Launch) (w : Wd) (hfl : l.stackTraces = false) (F d : Nat) (r : Option Nat × Hp) : ∀ (n : Nat) (this : Nat) (x2 : Int32) (x4 : Nat) (x5 : Int32) (x6 : Int32) (k_this : nd_Kd this = 0) (k_x4 : nd_Kd x4 = 13) (h : Hp), fX1_read_121 F d n this x2 x4 x5 x6 h = some r → nd_V l w yX1_read cX1_read 7 (some (.object "NotationDesk$Part")) (3 + 8 * d) (77 + 400 * d) (.inl (some (vr r.1)), r.2) h 121 [(0, vr (some this)), (2, vi x2), (4, vr (some x4)), (5, vi x5), (6, vi x6)] [] := by
  intro n
  induction n with
  | zero => intro _ _ _ _ _ _ _ _ hf; cases hf
  | succ n ih =>
    intro this x2 x4 x5 x6 k_this k_x4 h hf
    unfold fX1_read_121 at hf
    refine nd_iload (j := 4) dX1_read_121 rfl ?_
    refine nd_aload_n (j := 0) dX1_read_123 rfl rfl ?_
    refine nd_getI (k := 3) dX1_read_124 k_this rfl (Nat.le_of_ble_eq_true rfl) (nd_flO q287) rfl ?_
    refine nd_icmp_ge (tgt := 170) dX1_read_127 (by decide) (fun c1 => ?_) (fun c1 => ?_)
    · replace hf := ifp c1 hf
      exact nd_loc [2, 3] rfl (tX1_read_170 l w hfl F d r _ _ k_x4 _ hf)
    · replace hf := ifn c1 hf
      refine nd_iload (j := 3) dX1_read_130 rfl ?_
      refine nd_if_eq (tgt := 170) dX1_read_132 (by decide) (fun c2 => ?_) (fun c2 => ?_)
      · replace hf := ifp c2 hf
        exact nd_loc [2, 3] rfl (tX1_read_170 l w hfl F d r _ _ k_x4 _ hf)
      · replace hf := ifn c2 hf
        refine nd_aload_n (j := 0) dX1_read_135 rfl rfl ?_
        refine nd_getP (k := 7) dX1_read_136 k_this rfl (Nat.le_of_ble_eq_true rfl) (nd_flO q291) rfl (fun ok3 => ?_)
        replace hf := nnE hf
        obtain ⟨a4, e_a4, hf⟩ := hf
        refine nd_topr e_a4.symm ?_
        have k_a4 : nd_Kd a4 = 4 := nd_c1 (ok3 a4 e_a4)
        refine nd_getP (k := 0) dX1_read_139 k_a4 rfl (Nat.le_of_ble_eq_true rfl) (nd_flN q271) rfl (fun ok5 => ?_)
        replace hf := nnE hf
        obtain ⟨a6, e_a6, hf⟩ := hf
        refine nd_topr e_a6.symm ?_
        have k_a6 : nd_Kd a6 = 20 := nd_c1 (ok5 a6 e_a6)
        refine nd_iload (j := 4) dX1_read_142 rfl ?_
        refine nd_iload_n (j := 1) dX1_read_144 rfl rfl ?_
        refine nd_isub dX1_read_145 ?_
        replace hf := ckE hf
        obtain ⟨c7, hf⟩ := hf
        refine nd_iald dX1_read_146 k_a6 c7 ?_
        refine nd_aload_n (j := 0) dX1_read_147 rfl rfl ?_
        refine nd_getP (k := 2) dX1_read_148 k_this rfl (Nat.le_of_ble_eq_true rfl) (nd_flO q286) rfl (fun ok8 => ?_)
        replace hf := nnE hf
        obtain ⟨a9, e_a9, hf⟩ := hf
        refine nd_topr e_a9.symm ?_
        have k_a9 : nd_Kd a9 = 20 := nd_c1 (ok8 a9 e_a9)
        refine nd_iload (j := 4) dX1_read_151 rfl ?_
        replace hf := ckE hf
        obtain ⟨c10, hf⟩ := hf
        refine nd_iald dX1_read_153 k_a9 c10 ?_
        refine nd_icmp_ne (tgt := 161) dX1_read_154 (by decide) (fun c11 => ?_) (fun c11 => ?_)
        · replace hf := ifn c11 hf
          refine nd_iconst (v := 0) dX1_read_161 (by decide) ?_
          exact nd_loc [0, 1, 2, 4] rfl (tX1_read_162 l w hfl F d r (fX1_read_121 F d n) ih _ _ _ _ _ k_this k_x4 _ hf)
        · replace hf := ifp c11 hf
          refine nd_iconst (v := 1) dX1_read_157 (by decide) ?_
          refine nd_goto (tgt := 162) dX1_read_158 (by decide) ?_
          exact nd_loc [0, 1, 2, 4] rfl (tX1_read_162 l w hfl F d r (fX1_read_121 F d n) ih _ _ _ _ _ k_this k_x4 _ hf)
set_option maxHeartbeats 4000000 in
theorem tX1_read_116 (l : Launch) (w : Wd) (hfl : l.stackTraces = false) (F d : Nat) (r : Option Nat × Hp) (this : Nat) (x2 : Int32) (x4 : Nat) (s0 : Int32) (k_this : nd_Kd this = 0) (k_x4 : nd_Kd x4 = 13) (h : Hp) (hf : fX1_read_116 F d this x2 x4 s0 h = some r) : nd_V l w yX1_read cX1_read 7 (some (.object "NotationDesk$Part")) (3 + 8 * d) (77 + 400 * d) (.inl (some (vr r.1)), r.2) h 116 [(0, vr (some this)), (2, vi x2), (4, vr (some x4))] [vi s0] := by
  unfold fX1_read_116 at hf
  refine nd_istore [(5, vi s0), (0, vr (some this)), (2, vi x2), (4, vr (some x4))] dX1_read_116 (Nat.le_of_ble_eq_true rfl) rfl ?_
  refine nd_iload_n (j := 2) dX1_read_118 rfl rfl ?_
  refine nd_istore [(6, vi x2), (5, vi s0), (0, vr (some this)), (2, vi x2), (4, vr (some x4))] dX1_read_119 (Nat.le_of_ble_eq_true rfl) rfl ?_
  exact nd_loc [2, 3, 4, 1, 0] rfl (tX1_read_121 l w hfl F d r F _ _ _ _ _ k_this k_x4 _ hf)
set_option maxHeartbeats 4000000 in
theorem tX1_read_80 (l : Launch) (w : Wd) (hfl : l.stackTraces = false) (F d : Nat) (r : Option Nat × Hp) (this : Nat) (x1 : Nat) (x2 : Int32) (x3 : Int32) (x4 : Nat) (k_this : nd_Kd this = 0) (k_x1 : [6, 7, 8, 9, 11, 12].contains (nd_Kd x1) = true) (k_x4 : nd_Kd x4 = 13) (h : Hp) (hf : fX1_read_80 F d this x1 x2 x3 x4 h = some r) : nd_V l w yX1_read cX1_read 7 (some (.object "NotationDesk$Part")) (3 + 8 * d) (77 + 400 * d) (.inl (some (vr r.1)), r.2) h 80 [(0, vr (some this)), (1, vr (some x1)), (2, vi x2), (3, vi x3), (4, vr (some x4))] [] := by
  unfold fX1_read_80 at hf
  refine nd_iload_n (j := 3) dX1_read_80 rfl rfl ?_
  refine nd_if_ne (tgt := 87) dX1_read_81 (by decide) (fun c1 => ?_) (fun c1 => ?_)
  · replace hf := ifn c1 hf
    refine nd_aload_n (j := 0) dX1_read_87 rfl rfl ?_
    refine nd_aload_n (j := 1) dX1_read_88 rfl rfl ?_
    refine nd_aload (j := 4) dX1_read_89 rfl ?_
    refine nd_iload_n (j := 3) dX1_read_91 rfl rfl ?_
    replace hf := cvE hf
    obtain ⟨h2, e_h2, hf⟩ := hf
    refine nd_Vv [] (tX1_write l w hfl F d k_this k_x1 k_x4 e_h2) rfl dX1_read_92 mw_X1_write (Or.inl q1105) k_this rfl q1107 qs22 (by omega) (by omega) (Nat.le_of_ble_eq_true rfl) ?_
    refine nd_aload_n (j := 0) dX1_read_95 rfl rfl ?_
    refine nd_getP (k := 7) dX1_read_96 k_this rfl (Nat.le_of_ble_eq_true rfl) (nd_flO q291) rfl (fun ok4 => ?_)
    replace hf := nnE hf
    obtain ⟨a5, e_a5, hf⟩ := hf
    refine nd_topr e_a5.symm ?_
    have k_a5 : nd_Kd a5 = 4 := nd_c1 (ok4 a5 e_a5)
    replace hf := caE hf
    obtain ⟨v7, h6, e_h6, hf⟩ := hf
    refine nd_Vi [] (tX5_size l w hfl F d k_a5 e_h6) rfl dX1_read_99 mw_X5_size (Or.inl q1270) k_a5 rfl q1235 q1236 (by omega) (by omega) (Nat.le_of_ble_eq_true rfl) ?_
    refine nd_aload_n (j := 0) dX1_read_102 rfl rfl ?_
    refine nd_getI (k := 3) dX1_read_103 k_this rfl (Nat.le_of_ble_eq_true rfl) (nd_flO q287) rfl ?_
    refine nd_iload_n (j := 2) dX1_read_106 rfl rfl ?_
    refine nd_isub dX1_read_107 ?_
    refine nd_icmp_ne (tgt := 115) dX1_read_108 (by decide) (fun c8 => ?_) (fun c8 => ?_)
    · replace hf := ifn c8 hf
      refine nd_iconst (v := 0) dX1_read_115 (by decide) ?_
      exact nd_loc [0, 2, 4] rfl (tX1_read_116 l w hfl F d r _ _ _ _ k_this k_x4 _ hf)
    · replace hf := ifp c8 hf
      refine nd_iconst (v := 1) dX1_read_111 (by decide) ?_
      refine nd_goto (tgt := 116) dX1_read_112 (by decide) ?_
      exact nd_loc [0, 2, 4] rfl (tX1_read_116 l w hfl F d r _ _ _ _ k_this k_x4 _ hf)
  · replace hf := ifp c1 hf
    refine nd_aload (j := 4) dX1_read_84 rfl ?_
    cases hf
    exact nd_aret (fun b e => by cases e; exact okT13' (by rw [k_x4]; rfl)) dX1_read_86
set_option maxHeartbeats 4000000 in
theorem tX1_read_52 (l : Launch) (w : Wd) (hfl : l.stackTraces = false) (F d : Nat) (r : Option Nat × Hp) (this : Nat) (x1 : Nat) (x2 : Int32) (x3 : Int32) (s0 : Option Nat) (k_this : nd_Kd this = 0) (k_x1 : [6, 7, 8, 9, 11, 12].contains (nd_Kd x1) = true) (ok_s0 : ∀ b, s0 = some b → [13].contains (nd_Kd b) = true) (h : Hp) (hf : fX1_read_52 F d this x1 x2 x3 s0 h = some r) : nd_V l w yX1_read cX1_read 7 (some (.object "NotationDesk$Part")) (3 + 8 * d) (77 + 400 * d) (.inl (some (vr r.1)), r.2) h 52 [(0, vr (some this)), (1, vr (some x1)), (2, vi x2), (3, vi x3)] [vr s0] := by
  unfold fX1_read_52 at hf
  refine nd_astore [(4, vr s0), (0, vr (some this)), (1, vr (some x1)), (2, vi x2), (3, vi x3)] dX1_read_52 (Nat.le_of_ble_eq_true rfl) rfl ?_
  refine nd_aload (j := 0) dX1_read_54 rfl ?_
  refine nd_ifnull (tgt := 78) dX1_read_56 (by decide) (fun e_a1 => ?_) (fun a1 e_a1 => ?_)
  · replace hf := ocN e_a1 hf
    subst e_a1
    refine nd_null dX1_read_78 ?_
    cases hf
    exact nd_aret (fun b e => by cases e) dX1_read_79
  · replace hf := ocS e_a1 hf
    have k_a1 : nd_Kd a1 = 13 := nd_c1 (ok_s0 a1 e_a1)
    subst e_a1
    refine nd_iload_n (j := 4) dX1_read_59 rfl rfl ?_
    refine nd_iconst (v := 2) dX1_read_60 (by decide) ?_
    refine nd_icmp_eq (tgt := 80) dX1_read_61 (by decide) (fun c2 => ?_) (fun c2 => ?_)
    · replace hf := ifp c2 hf
      exact nd_loc [1, 2, 3, 4, 0] rfl (tX1_read_80 l w hfl F d r _ _ _ _ _ k_this k_x1 k_a1 _ hf)
    · replace hf := ifn c2 hf
      refine nd_aload_n (j := 1) dX1_read_64 rfl rfl ?_
      refine nd_getP (k := 6) dX1_read_65 k_this rfl (Nat.le_of_ble_eq_true rfl) (nd_flO q290) rfl (fun ok3 => ?_)
      replace hf := nnE hf
      obtain ⟨a4, e_a4, hf⟩ := hf
      refine nd_topr e_a4.symm ?_
      have k_a4 : nd_Kd a4 = 3 := nd_c1 (ok3 a4 e_a4)
      refine nd_getI (k := 1) dX1_read_68 k_a4 rfl (Nat.le_of_ble_eq_true rfl) (nd_flN q233) rfl ?_
      refine nd_aload_n (j := 1) dX1_read_71 rfl rfl ?_
      refine nd_getI (k := 3) dX1_read_72 k_this rfl (Nat.le_of_ble_eq_true rfl) (nd_flO q287) rfl ?_
      refine nd_icmp_eq (tgt := 80) dX1_read_75 (by decide) (fun c5 => ?_) (fun c5 => ?_)
      · replace hf := ifp c5 hf
        exact nd_loc [1, 2, 3, 4, 0] rfl (tX1_read_80 l w hfl F d r _ _ _ _ _ k_this k_x1 k_a1 _ hf)
      · replace hf := ifn c5 hf
        refine nd_null dX1_read_78 ?_
        cases hf
        exact nd_aret (fun b e => by cases e) dX1_read_79
set_option maxHeartbeats 4000000 in
theorem tX1_read (l : Launch) (w : Wd) (hfl : l.stackTraces = false) (F d : Nat) {this : Nat} {p0 : Nat} {p1 : Int32} {p2 : Int32} (k_this : nd_Kd this = 0) (k_p0 : [6, 7, 8, 9, 11, 12].contains (nd_Kd p0) = true) {h : Hp} {r : Option Nat × Hp} (hf : fX1_read F d this p0 p1 p2 h = some r) : nd_C l w yX1_read cX1_read 7 (some (.object "NotationDesk$Part")) (3 + 8 * d) (77 + 400 * d) [vr (some this), vr (some p0), vi p1, vi p2] h (.inl (some (vr r.1)), r.2) := by
  refine nd_start (as := [vr (some this), vr (some p0), vi p1, vi p2]) hfl (by decide) (Nat.le_of_ble_eq_true rfl) ?_
  unfold fX1_read at hf
  refine nd_eqL (L' := [(0, vr (some this)), (1, vr (some p0)), (2, vi p1), (3, vi p2)]) rfl ?_
  refine nd_aload_n (j := 0) dX1_read_0 rfl rfl ?_
  refine nd_getP (k := 5) dX1_read_1 k_this rfl (Nat.le_of_ble_eq_true rfl) (nd_flO q289) rfl (fun ok1 => ?_)
  replace hf := nnE hf
  obtain ⟨a2, e_a2, hf⟩ := hf
  refine nd_topr e_a2.symm ?_
  have k_a2 : nd_Kd a2 = 2 := nd_c1 (ok1 a2 e_a2)
  replace hf := cvE hf
  obtain ⟨h3, e_h3, hf⟩ := hf
  refine nd_Vv [] (tX3_clear l w hfl F d k_a2 e_h3) rfl dX1_read_4 mw_X3_clear (Or.inl q330) k_a2 rfl q331 q332 (by omega) (by omega) (Nat.le_of_ble_eq_true rfl) ?_
  refine nd_aload_n (j := 0) dX1_read_7 rfl rfl ?_
  refine nd_getP (k := 6) dX1_read_8 k_this rfl (Nat.le_of_ble_eq_true rfl) (nd_flO q290) rfl (fun ok5 => ?_)
  replace hf := nnE hf
  obtain ⟨a6, e_a6, hf⟩ := hf
  refine nd_topr e_a6.symm ?_
  have k_a6 : nd_Kd a6 = 3 := nd_c1 (ok5 a6 e_a6)
  refine nd_aload_n (j := 0) dX1_read_11 rfl rfl ?_
  refine nd_getP (k := 2) dX1_read_12 k_this rfl (Nat.le_of_ble_eq_true rfl) (nd_flO q286) rfl (fun ok7 => ?_)
  replace hf := nnE hf
  obtain ⟨a8, e_a8, hf⟩ := hf
  refine nd_topr e_a8.symm ?_
  have k_a8 : nd_Kd a8 = 20 := nd_c1 (ok7 a8 e_a8)
  refine nd_iload_n (j := 2) dX1_read_15 rfl rfl ?_
  refine nd_aload_n (j := 0) dX1_read_16 rfl rfl ?_
  refine nd_getI (k := 3) dX1_read_17 k_this rfl (Nat.le_of_ble_eq_true rfl) (nd_flO q287) rfl ?_
  refine nd_aload_n (j := 0) dX1_read_20 rfl rfl ?_
  refine nd_getP (k := 5) dX1_read_21 k_this rfl (Nat.le_of_ble_eq_true rfl) (nd_flO q289) rfl (fun ok9 => ?_)
  replace hf := nnE hf
  obtain ⟨a10, e_a10, hf⟩ := hf
  refine nd_topr e_a10.symm ?_
  have k_a10 : nd_Kd a10 = 2 := nd_c1 (ok9 a10 e_a10)
  replace hf := cvE hf
  obtain ⟨h11, e_h11, hf⟩ := hf
  refine nd_Vv [] (tX4_begin l w hfl F d k_a6 k_a8 k_a10 e_h11) rfl dX1_read_24 mw_X4_begin (Or.inl q860) k_a6 rfl q861 q862 (by omega) (by omega) (Nat.le_of_ble_eq_true rfl) ?_
  refine nd_iload_n (j := 3) dX1_read_27 rfl rfl ?_
  refine nd_iconst (v := 2) dX1_read_28 (by decide) ?_
  refine nd_icmp_ne (tgt := 43) dX1_read_29 (by decide) (fun c13 => ?_) (fun c13 => ?_)
  · replace hf := ifn c13 hf
    refine nd_aload_n (j := 1) dX1_read_43 rfl rfl ?_
    refine nd_aload_n (j := 0) dX1_read_44 rfl rfl ?_
    refine nd_getP (k := 6) dX1_read_45 k_this rfl (Nat.le_of_ble_eq_true rfl) (nd_flO q290) rfl (fun ok14 => ?_)
    replace hf := nnE hf
    obtain ⟨a15, e_a15, hf⟩ := hf
    refine nd_topr e_a15.symm ?_
    have k_a15 : nd_Kd a15 = 3 := nd_c1 (ok14 a15 e_a15)
    refine nd_iconst (v := (-1)) dX1_read_48 (by decide) ?_
    replace hf := caE hf
    obtain ⟨v17, h16, e_h16, hf⟩ := hf
    refine nd_v_read [] (tv_read l w hfl F d k_p0 k_a15 e_h16) rfl dX1_read_49 q1040 k_p0 (by omega) (by omega) (Nat.le_of_ble_eq_true rfl) (fun ok18 => ?_)
    have ok_v17 : ∀ b, v17 = some b → [13].contains (nd_Kd b) = true := fun b q => okT13 (ok18 b q)
    exact nd_loc [0, 1, 2, 3] rfl (tX1_read_52 l w hfl F d r _ _ _ _ _ k_this k_p0 ok_v17 _ hf)
  · replace hf := ifp c13 hf
    refine nd_aload_n (j := 1) dX1_read_32 rfl rfl ?_
    refine nd_aload_n (j := 0) dX1_read_33 rfl rfl ?_
    refine nd_getP (k := 6) dX1_read_34 k_this rfl (Nat.le_of_ble_eq_true rfl) (nd_flO q290) rfl (fun ok19 => ?_)
    replace hf := nnE hf
    obtain ⟨a20, e_a20, hf⟩ := hf
    refine nd_topr e_a20.symm ?_
    have k_a20 : nd_Kd a20 = 3 := nd_c1 (ok19 a20 e_a20)
    replace hf := caE hf
    obtain ⟨v22, h21, e_h21, hf⟩ := hf
    refine nd_v_unpack [] (tv_unpack l w hfl F d k_p0 k_a20 e_h21) rfl dX1_read_37 q864 k_p0 (by omega) (by omega) (Nat.le_of_ble_eq_true rfl) (fun ok23 => ?_)
    have ok_v22 : ∀ b, v22 = some b → [13].contains (nd_Kd b) = true := fun b q => okT13 (ok23 b q)
    refine nd_goto (tgt := 52) dX1_read_40 (by decide) ?_
    exact nd_loc [0, 1, 2, 3] rfl (tX1_read_52 l w hfl F d r _ _ _ _ _ k_this k_p0 ok_v22 _ hf)
def fX1_replies (F d : Nat) (this : Nat) (p0 : Int32) (p1 : Int32) (p2 : Int32) (h : Hp) : Option (Int32 × Hp) :=
  nn (gP h 102 this) fun a2 => (
  ck (inb 0 (nd_Ln a2)) (
  bn (sA h a2 (Int32.toNatClampNeg 0) p0) fun h4 => (
  nn (gP h4 102 this) fun a6 => (
  ck (inb 1 (nd_Ln a6)) (
  bn (sA h4 a6 (Int32.toNatClampNeg 1) p1) fun h8 => (
  nn (gP h8 102 this) fun a10 => (
  ck (inb 2 (nd_Ln a10)) (
  bn (sA h8 a10 (Int32.toNatClampNeg 2) p2) fun h12 => (
  if p0 = 3 then
  (bn (sI h12 103 this 2) fun h15 => (
  some (p0, h15)))
  else
  (bn (sI h12 103 this 3) fun h14 => (
  some (p0, h14))))))))))))
set_option maxHeartbeats 4000000 in
theorem tX1_replies (l : Launch) (w : Wd) (hfl : l.stackTraces = false) (F d : Nat) {this : Nat} {p0 : Int32} {p1 : Int32} {p2 : Int32} (k_this : nd_Kd this = 0) {h : Hp} {r : Int32 × Hp} (hf : fX1_replies F d this p0 p1 p2 h = some r) : nd_C l w yX1_replies cX1_replies 4 (some .int) 0 0 [vr (some this), vi p0, vi p1, vi p2] h (.inl (some (vi r.1)), r.2) := by
  refine nd_start (as := [vr (some this), vi p0, vi p1, vi p2]) hfl (by decide) (Nat.le_of_ble_eq_true rfl) ?_
  unfold fX1_replies at hf
  refine nd_eqL (L' := [(0, vr (some this)), (1, vi p0), (2, vi p1), (3, vi p2)]) rfl ?_
  refine nd_aload_n (j := 0) dX1_replies_0 rfl rfl ?_
  refine nd_getP (k := 2) dX1_replies_1 k_this rfl (Nat.le_of_ble_eq_true rfl) (nd_flO q286) rfl (fun ok1 => ?_)
  replace hf := nnE hf
  obtain ⟨a2, e_a2, hf⟩ := hf
  refine nd_topr e_a2.symm ?_
  have k_a2 : nd_Kd a2 = 20 := nd_c1 (ok1 a2 e_a2)
  refine nd_iconst (v := 0) dX1_replies_4 (by decide) ?_
  refine nd_iload_n (j := 1) dX1_replies_5 rfl rfl ?_
  replace hf := ckE hf
  obtain ⟨c3, hf⟩ := hf
  refine nd_iast dX1_replies_6 k_a2 c3 ?_
  replace hf := bnE hf
  obtain ⟨h4, e_h4, hf⟩ := hf
  refine nd_hp e_h4 ?_
  refine nd_aload_n (j := 0) dX1_replies_7 rfl rfl ?_
  refine nd_getP (k := 2) dX1_replies_8 k_this rfl (Nat.le_of_ble_eq_true rfl) (nd_flO q286) rfl (fun ok5 => ?_)
  replace hf := nnE hf
  obtain ⟨a6, e_a6, hf⟩ := hf
  refine nd_topr e_a6.symm ?_
  have k_a6 : nd_Kd a6 = 20 := nd_c1 (ok5 a6 e_a6)
  refine nd_iconst (v := 1) dX1_replies_11 (by decide) ?_
  refine nd_iload_n (j := 2) dX1_replies_12 rfl rfl ?_
  replace hf := ckE hf
  obtain ⟨c7, hf⟩ := hf
  refine nd_iast dX1_replies_13 k_a6 c7 ?_
  replace hf := bnE hf
  obtain ⟨h8, e_h8, hf⟩ := hf
  refine nd_hp e_h8 ?_
  refine nd_aload_n (j := 0) dX1_replies_14 rfl rfl ?_
  refine nd_getP (k := 2) dX1_replies_15 k_this rfl (Nat.le_of_ble_eq_true rfl) (nd_flO q286) rfl (fun ok9 => ?_)
  replace hf := nnE hf
  obtain ⟨a10, e_a10, hf⟩ := hf
  refine nd_topr e_a10.symm ?_
  have k_a10 : nd_Kd a10 = 20 := nd_c1 (ok9 a10 e_a10)
  refine nd_iconst (v := 2) dX1_replies_18 (by decide) ?_
  refine nd_iload_n (j := 3) dX1_replies_19 rfl rfl ?_
  replace hf := ckE hf
  obtain ⟨c11, hf⟩ := hf
  refine nd_iast dX1_replies_20 k_a10 c11 ?_
  replace hf := bnE hf
  obtain ⟨h12, e_h12, hf⟩ := hf
  refine nd_hp e_h12 ?_
  refine nd_aload_n (j := 0) dX1_replies_21 rfl rfl ?_
  refine nd_iload_n (j := 1) dX1_replies_22 rfl rfl ?_
  refine nd_iconst (v := 3) dX1_replies_23 (by decide) ?_
  refine nd_icmp_ne (tgt := 31) dX1_replies_24 (by decide) (fun c13 => ?_) (fun c13 => ?_)
  · replace hf := ifn c13 hf
    refine nd_iconst (v := 3) dX1_replies_31 (by decide) ?_
    refine nd_putN (k := 3) dX1_replies_32 k_this rfl (Nat.le_of_ble_eq_true rfl) (nd_flO q287) rfl rfl rfl ?_
    replace hf := bnE hf
    obtain ⟨h14, e_h14, hf⟩ := hf
    refine nd_hp e_h14 ?_
    refine nd_iload_n (j := 1) dX1_replies_35 rfl rfl ?_
    cases hf
    exact nd_iret (v := p0) dX1_replies_36
  · replace hf := ifp c13 hf
    refine nd_iconst (v := 2) dX1_replies_27 (by decide) ?_
    refine nd_goto (tgt := 32) dX1_replies_28 (by decide) ?_
    refine nd_putN (k := 3) dX1_replies_32 k_this rfl (Nat.le_of_ble_eq_true rfl) (nd_flO q287) rfl rfl rfl ?_
    replace hf := bnE hf
    obtain ⟨h15, e_h15, hf⟩ := hf
    refine nd_hp e_h15 ?_
    refine nd_iload_n (j := 1) dX1_replies_35 rfl rfl ?_
    cases hf
    exact nd_iret (v := p0) dX1_replies_36
def fX1_serve_52 (F d : Nat) (this : Nat) (x1 : Int32) (h : Hp) : Option ((Int32 ⊕ Nat) × Hp) :=
  ca (fX1_replies F d this 4 x1 1 h) fun v2 h1 => (
  some (.inl v2, h1))
def fX1_serve_82 (F d : Nat) (this : Nat) (x1 : Int32) (h : Hp) : Option ((Int32 ⊕ Nat) × Hp) :=
  ca (fX1_replies F d this 4 x1 2 h) fun v2 h1 => (
  some (.inl v2, h1))
def fX1_serve_201 (F d : Nat) : Nat → Nat → Nat → Int32 → Hp → Option ((Int32 ⊕ Nat) × Hp)
  | 0, _, _, _, _ => none
  | n + 1, this, x3, x4, h =>
    nn (gP h 107 this) fun a2 => (
    ca (fX5_size F d a2 h) fun v4 h3 => (
    if v4 ≤ x4 then
    (nn (gP h3 107 this) fun a7 => (
    ca (fX5_size F d a7 h3) fun v9 h8 => (
    bn (sI h8 103 this (3 + v9)) fun h10 => (
    cv (fX1_keep F d this x3 h10) fun h11 => (
    some (.inl 2, h11))))))
    else
    (nn (gP h3 102 this) fun a14 => (
    nn (gP h3 107 this) fun a16 => (
    nn (gP h3 500 a16) fun a18 => (
    ck (inb x4 (nd_Ln a18)) (
    ck (inb (3 + x4) (nd_Ln a14)) (
    bn (sA h3 a14 (Int32.toNatClampNeg (3 + x4)) (gA h3 a18 (Int32.toNatClampNeg x4))) fun h21 => (
    bn (x4 + 1) fun v22 => (
    fX1_serve_201 F d n this x3 v22 h21))))))))))
def fX1_serve_33 (F d : Nat) (this : Nat) (s0 : Int32) (h : Hp) : Option ((Int32 ⊕ Nat) × Hp) :=
  if (gI h 103 this) < 3 then
  (fX1_serve_52 F d this s0 h)
  else
  (nn (gP h 102 this) fun a3 => (
  ck (inb 0 (nd_Ln a3)) (
  if (gA h a3 (Int32.toNatClampNeg 0)) = 1 then
  (nn (gP h 102 this) fun a7 => (
  ck (inb 2 (nd_Ln a7)) (
  bn (gA h a7 (Int32.toNatClampNeg 2)) fun v9 => (
  if 8 ≤ v9 then
  (fX1_serve_82 F d this s0 h)
  else
  (nn (gP h 108 this) fun a12 => (
  ck (inb v9 (nd_Ln a12)) (
  bn (gR h a12 (Int32.toNatClampNeg v9)) fun o15 => (
  oc o15
  (fX1_serve_82 F d this s0 h)
  (fun a16 =>
  nn (gP h 111 this) fun a18 => (
  ck (inb s0 (nd_Ln a18)) (
  if (gA h a18 (Int32.toNatClampNeg s0)) = 0 then
  (nn (gP h 108 this) fun a22 => (
  ck (inb v9 (nd_Ln a22)) (
  bn (gR h a22 (Int32.toNatClampNeg v9)) fun o25 => (
  nn (gP h 109 this) fun a27 => (
  ck (inb v9 (nd_Ln a27)) (
  nn o25 fun a29 => (
  ca (fX1_read F d this a29 3 (gA h a27 (Int32.toNatClampNeg v9)) h) fun v31 h30 => (
  oc v31
  (nn (gP h30 111 this) fun a35 => (
  ck (inb s0 (nd_Ln a35)) (
  bn (sA h30 a35 (Int32.toNatClampNeg s0) 1) fun h37 => (
  ca (fX1_replies F d this 3 s0 0 h37) fun v39 h38 => (
  some (.inl v39, h38))))))
  (fun a33 =>
  nn (gP h30 108 this) fun a41 => (
  ck (inb v9 (nd_Ln a41)) (
  bn (gR h30 a41 (Int32.toNatClampNeg v9)) fun o44 => (
  nn (gP h30 110 this) fun a46 => (
  ck (inb v9 (nd_Ln a46)) (
  nn o44 fun a48 => (
  cv (fX1_write F d this a48 a33 (gA h30 a46 (Int32.toNatClampNeg v9)) h30) fun h49 => (
  nn (gP h49 107 this) fun a52 => (
  ca (fX5_size F d a52 h49) fun v54 h53 => (
  if (v54 + 3) ≤ 120 then
  (nn (gP h53 111 this) fun a57 => (
  ck (inb s0 (nd_Ln a57)) (
  bn (sA h53 a57 (Int32.toNatClampNeg s0) 1) fun h59 => (
  ca (fX1_replies F d this 2 s0 v9 h59) fun v61 h60 => (
  fX1_serve_201 F d F this a33 0 h60)))))
  else
  (ca (fX1_replies F d this 4 s0 4 h53) fun v63 h62 => (
  some (.inl v63, h62)))))))))))))))))))))
  else
  (ca (fX1_replies F d this 4 s0 3 h) fun v65 h64 => (
  some (.inl v65, h64))))))))))))))
  else
  (fX1_serve_52 F d this s0 h))))
def fX1_serve (F d : Nat) (this : Nat) (h : Hp) : Option ((Int32 ⊕ Nat) × Hp) :=
  if (gI h 101 this) = 0 then
  (some (.inr 1, nx h 6))
  else
  (if 2 ≤ (gI h 103 this) then
  (nn (gP h 102 this) fun a4 => (
  ck (inb 1 (nd_Ln a4)) (
  fX1_serve_33 F d this (gA h a4 (Int32.toNatClampNeg 1)) h)))
  else
  (fX1_serve_33 F d this 0 h))
set_option maxHeartbeats 4000000 in
theorem tX1_serve_52 (l : Launch) (w : Wd) (hfl : l.stackTraces = false) (F d : Nat) (r : (Int32 ⊕ Nat) × Hp) (this : Nat) (x1 : Int32) (k_this : nd_Kd this = 0) (h : Hp) (hf : fX1_serve_52 F d this x1 h = some r) : nd_V l w yX1_serve cX1_serve 5 (some .int) (6 + 8 * d) (103 + 400 * d) (rxi r) h 52 [(0, vr (some this)), (1, vi x1)] [] := by
  unfold fX1_serve_52 at hf
  refine nd_aload_n (j := 0) dX1_serve_52 rfl rfl ?_
  refine nd_iconst (v := 4) dX1_serve_53 (by decide) ?_
  refine nd_iload_n (j := 1) dX1_serve_54 rfl rfl ?_
  refine nd_iconst (v := 1) dX1_serve_55 (by decide) ?_
  replace hf := caE hf
  obtain ⟨v2, h1, e_h1, hf⟩ := hf
  refine nd_Vi [] (tX1_replies l w hfl F d k_this e_h1) rfl dX1_serve_56 mw_X1_replies (Or.inl q1326) k_this rfl q1328 qs28 (by omega) (by omega) (Nat.le_of_ble_eq_true rfl) ?_
  cases hf
  exact nd_iret (v := v2) dX1_serve_59
set_option maxHeartbeats 4000000 in
theorem tX1_serve_82 (l : Launch) (w : Wd) (hfl : l.stackTraces = false) (F d : Nat) (r : (Int32 ⊕ Nat) × Hp) (this : Nat) (x1 : Int32) (k_this : nd_Kd this = 0) (h : Hp) (hf : fX1_serve_82 F d this x1 h = some r) : nd_V l w yX1_serve cX1_serve 5 (some .int) (6 + 8 * d) (103 + 400 * d) (rxi r) h 82 [(0, vr (some this)), (1, vi x1)] [] := by
  unfold fX1_serve_82 at hf
  refine nd_aload_n (j := 0) dX1_serve_82 rfl rfl ?_
  refine nd_iconst (v := 4) dX1_serve_83 (by decide) ?_
  refine nd_iload_n (j := 1) dX1_serve_84 rfl rfl ?_
  refine nd_iconst (v := 2) dX1_serve_85 (by decide) ?_
  replace hf := caE hf
  obtain ⟨v2, h1, e_h1, hf⟩ := hf
  refine nd_Vi [] (tX1_replies l w hfl F d k_this e_h1) rfl dX1_serve_86 mw_X1_replies (Or.inl q1326) k_this rfl q1328 qs28 (by omega) (by omega) (Nat.le_of_ble_eq_true rfl) ?_
  cases hf
  exact nd_iret (v := v2) dX1_serve_89
set_option maxHeartbeats 4000000 in
theorem tX1_serve_201 (l : Launch) (w : Wd) (hfl : l.stackTraces = false) (F d : Nat) (r : (Int32 ⊕ Nat) × Hp) : ∀ (n : Nat) (this : Nat) (x3 : Nat) (x4 : Int32) (k_this : nd_Kd this = 0) (k_x3 : nd_Kd x3 = 13) (h : Hp), fX1_serve_201 F d n this x3 x4 h = some r → nd_V l w yX1_serve cX1_serve 5 (some .int) (6 + 8 * d) (103 + 400 * d) (rxi r) h 201 [(0, vr (some this)), (3, vr (some x3)), (4, vi x4)] [] := by
  intro n
  induction n with
  | zero => intro _ _ _ _ _ _ hf; cases hf
  | succ n ih =>
    intro this x3 x4 k_this k_x3 h hf
    unfold fX1_serve_201 at hf
    refine nd_iload (j := 2) dX1_serve_201 rfl ?_
    refine nd_aload_n (j := 0) dX1_serve_203 rfl rfl ?_
    refine nd_getP (k := 7) dX1_serve_204 k_this rfl (Nat.le_of_ble_eq_true rfl) (nd_flO q291) rfl (fun ok1 => ?_)
    replace hf := nnE hf
    obtain ⟨a2, e_a2, hf⟩ := hf
    refine nd_topr e_a2.symm ?_
    have k_a2 : nd_Kd a2 = 4 := nd_c1 (ok1 a2 e_a2)
    replace hf := caE hf
    obtain ⟨v4, h3, e_h3, hf⟩ := hf
    refine nd_Vi [vi x4] (tX5_size l w hfl F d k_a2 e_h3) rfl dX1_serve_207 mw_X5_size (Or.inl q1270) k_a2 rfl q1235 q1236 (by omega) (by omega) (Nat.le_of_ble_eq_true rfl) ?_
    refine nd_icmp_ge (tgt := 238) dX1_serve_210 (by decide) (fun c5 => ?_) (fun c5 => ?_)
    · replace hf := ifp c5 hf
      refine nd_aload_n (j := 0) dX1_serve_238 rfl rfl ?_
      refine nd_iconst (v := 3) dX1_serve_239 (by decide) ?_
      refine nd_aload_n (j := 0) dX1_serve_240 rfl rfl ?_
      refine nd_getP (k := 7) dX1_serve_241 k_this rfl (Nat.le_of_ble_eq_true rfl) (nd_flO q291) rfl (fun ok6 => ?_)
      replace hf := nnE hf
      obtain ⟨a7, e_a7, hf⟩ := hf
      refine nd_topr e_a7.symm ?_
      have k_a7 : nd_Kd a7 = 4 := nd_c1 (ok6 a7 e_a7)
      replace hf := caE hf
      obtain ⟨v9, h8, e_h8, hf⟩ := hf
      refine nd_Vi [vi 3, vr (some this)] (tX5_size l w hfl F d k_a7 e_h8) rfl dX1_serve_244 mw_X5_size (Or.inl q1270) k_a7 rfl q1235 q1236 (by omega) (by omega) (Nat.le_of_ble_eq_true rfl) ?_
      refine nd_iadd dX1_serve_247 ?_
      refine nd_putN (k := 3) dX1_serve_248 k_this rfl (Nat.le_of_ble_eq_true rfl) (nd_flO q287) rfl rfl rfl ?_
      replace hf := bnE hf
      obtain ⟨h10, e_h10, hf⟩ := hf
      refine nd_hp e_h10 ?_
      refine nd_aload_n (j := 0) dX1_serve_251 rfl rfl ?_
      refine nd_aload_n (j := 1) dX1_serve_252 rfl rfl ?_
      replace hf := cvE hf
      obtain ⟨h11, e_h11, hf⟩ := hf
      refine nd_Vv [] (tX1_keep l w hfl F d k_this k_x3 e_h11) rfl dX1_serve_253 mw_X1_keep (Or.inl q1286) k_this rfl q1288 qs26 (by omega) (by omega) (Nat.le_of_ble_eq_true rfl) ?_
      refine nd_iconst (v := 2) dX1_serve_256 (by decide) ?_
      cases hf
      exact nd_iret (v := 2) dX1_serve_257
    · replace hf := ifn c5 hf
      refine nd_aload_n (j := 0) dX1_serve_213 rfl rfl ?_
      refine nd_getP (k := 2) dX1_serve_214 k_this rfl (Nat.le_of_ble_eq_true rfl) (nd_flO q286) rfl (fun ok13 => ?_)
      replace hf := nnE hf
      obtain ⟨a14, e_a14, hf⟩ := hf
      refine nd_topr e_a14.symm ?_
      have k_a14 : nd_Kd a14 = 20 := nd_c1 (ok13 a14 e_a14)
      refine nd_iconst (v := 3) dX1_serve_217 (by decide) ?_
      refine nd_iload (j := 2) dX1_serve_218 rfl ?_
      refine nd_iadd dX1_serve_220 ?_
      refine nd_aload_n (j := 0) dX1_serve_221 rfl rfl ?_
      refine nd_getP (k := 7) dX1_serve_222 k_this rfl (Nat.le_of_ble_eq_true rfl) (nd_flO q291) rfl (fun ok15 => ?_)
      replace hf := nnE hf
      obtain ⟨a16, e_a16, hf⟩ := hf
      refine nd_topr e_a16.symm ?_
      have k_a16 : nd_Kd a16 = 4 := nd_c1 (ok15 a16 e_a16)
      refine nd_getP (k := 0) dX1_serve_225 k_a16 rfl (Nat.le_of_ble_eq_true rfl) (nd_flN q271) rfl (fun ok17 => ?_)
      replace hf := nnE hf
      obtain ⟨a18, e_a18, hf⟩ := hf
      refine nd_topr e_a18.symm ?_
      have k_a18 : nd_Kd a18 = 20 := nd_c1 (ok17 a18 e_a18)
      refine nd_iload (j := 2) dX1_serve_228 rfl ?_
      replace hf := ckE hf
      obtain ⟨c19, hf⟩ := hf
      refine nd_iald dX1_serve_230 k_a18 c19 ?_
      replace hf := ckE hf
      obtain ⟨c20, hf⟩ := hf
      refine nd_iast dX1_serve_231 k_a14 c20 ?_
      replace hf := bnE hf
      obtain ⟨h21, e_h21, hf⟩ := hf
      refine nd_hp e_h21 ?_
      replace hf := bnE hf
      obtain ⟨v22, e_v22, hf⟩ := hf
      refine nd_iinc (v := v22) (j := 2) [(4, vi v22), (0, vr (some this)), (3, vr (some x3))] dX1_serve_232 rfl (by rw [e_v22]; rfl) (Nat.le_of_ble_eq_true rfl) rfl ?_
      refine nd_goto (tgt := 201) dX1_serve_235 (by decide) ?_
      exact nd_loc [1, 2, 0] rfl (ih _ _ _ k_this k_x3 _ hf)
set_option maxHeartbeats 4000000 in
theorem tX1_serve_33 (l : Launch) (w : Wd) (hfl : l.stackTraces = false) (F d : Nat) (r : (Int32 ⊕ Nat) × Hp) (this : Nat) (s0 : Int32) (k_this : nd_Kd this = 0) (h : Hp) (hf : fX1_serve_33 F d this s0 h = some r) : nd_V l w yX1_serve cX1_serve 5 (some .int) (6 + 8 * d) (103 + 400 * d) (rxi r) h 33 [(0, vr (some this))] [vi s0] := by
  unfold fX1_serve_33 at hf
  refine nd_istore_n [(1, vi s0), (0, vr (some this))] dX1_serve_33 rfl (Nat.le_of_ble_eq_true rfl) rfl ?_
  refine nd_aload_n (j := 1) dX1_serve_34 rfl rfl ?_
  refine nd_getI (k := 3) dX1_serve_35 k_this rfl (Nat.le_of_ble_eq_true rfl) (nd_flO q287) rfl ?_
  refine nd_iconst (v := 3) dX1_serve_38 (by decide) ?_
  refine nd_icmp_lt (tgt := 52) dX1_serve_39 (by decide) (fun c1 => ?_) (fun c1 => ?_)
  · replace hf := ifp c1 hf
    exact nd_loc [1, 0] rfl (tX1_serve_52 l w hfl F d r _ _ k_this _ hf)
  · replace hf := ifn c1 hf
    refine nd_aload_n (j := 1) dX1_serve_42 rfl rfl ?_
    refine nd_getP (k := 2) dX1_serve_43 k_this rfl (Nat.le_of_ble_eq_true rfl) (nd_flO q286) rfl (fun ok2 => ?_)
    replace hf := nnE hf
    obtain ⟨a3, e_a3, hf⟩ := hf
    refine nd_topr e_a3.symm ?_
    have k_a3 : nd_Kd a3 = 20 := nd_c1 (ok2 a3 e_a3)
    refine nd_iconst (v := 0) dX1_serve_46 (by decide) ?_
    replace hf := ckE hf
    obtain ⟨c4, hf⟩ := hf
    refine nd_iald dX1_serve_47 k_a3 c4 ?_
    refine nd_iconst (v := 1) dX1_serve_48 (by decide) ?_
    refine nd_icmp_eq (tgt := 60) dX1_serve_49 (by decide) (fun c5 => ?_) (fun c5 => ?_)
    · replace hf := ifp c5 hf
      refine nd_aload_n (j := 1) dX1_serve_60 rfl rfl ?_
      refine nd_getP (k := 2) dX1_serve_61 k_this rfl (Nat.le_of_ble_eq_true rfl) (nd_flO q286) rfl (fun ok6 => ?_)
      replace hf := nnE hf
      obtain ⟨a7, e_a7, hf⟩ := hf
      refine nd_topr e_a7.symm ?_
      have k_a7 : nd_Kd a7 = 20 := nd_c1 (ok6 a7 e_a7)
      refine nd_iconst (v := 2) dX1_serve_64 (by decide) ?_
      replace hf := ckE hf
      obtain ⟨c8, hf⟩ := hf
      refine nd_iald dX1_serve_65 k_a7 c8 ?_
      replace hf := bnE hf
      obtain ⟨v9, e_v9, hf⟩ := hf
      refine nd_top e_v9 ?_
      refine nd_istore_n [(2, vi v9), (1, vi s0), (0, vr (some this))] dX1_serve_66 rfl (Nat.le_of_ble_eq_true rfl) rfl ?_
      refine nd_iload_n (j := 0) dX1_serve_67 rfl rfl ?_
      refine nd_bipush (v := 8) dX1_serve_68 (by decide) ?_
      refine nd_icmp_ge (tgt := 82) dX1_serve_70 (by decide) (fun c10 => ?_) (fun c10 => ?_)
      · replace hf := ifp c10 hf
        exact nd_loc [2, 1] rfl (tX1_serve_82 l w hfl F d r _ _ k_this _ hf)
      · replace hf := ifn c10 hf
        refine nd_aload_n (j := 2) dX1_serve_73 rfl rfl ?_
        refine nd_getP (k := 8) dX1_serve_74 k_this rfl (Nat.le_of_ble_eq_true rfl) (nd_flO q292) rfl (fun ok11 => ?_)
        replace hf := nnE hf
        obtain ⟨a12, e_a12, hf⟩ := hf
        refine nd_topr e_a12.symm ?_
        have k_a12 : nd_Kd a12 = 24 := nd_c1 (ok11 a12 e_a12)
        refine nd_iload_n (j := 0) dX1_serve_77 rfl rfl ?_
        replace hf := ckE hf
        obtain ⟨c13, hf⟩ := hf
        refine nd_aald (t := 4) (C := "NotationDesk$Type") dX1_serve_78 k_a12 (by decide) (fun _ => rfl) c13 (fun ok14 => ?_)
        replace hf := bnE hf
        obtain ⟨o15, e_o15, hf⟩ := hf
        refine nd_topr e_o15 ?_
        have ok_o15 : ∀ b, o15 = some b → [6, 7, 8, 9, 11, 12].contains (nd_Kd b) = true := fun b q => ok14 b (e_o15 ▸ q)
        refine nd_ifnonnull (tgt := 90) dX1_serve_79 (by decide) (fun e_a16 => ?_) (fun a16 e_a16 => ?_)
        · replace hf := ocN e_a16 hf
          subst e_a16
          exact nd_loc [2, 1] rfl (tX1_serve_82 l w hfl F d r _ _ k_this _ hf)
        · replace hf := ocS e_a16 hf
          have k_a16 : [6, 7, 8, 9, 11, 12].contains (nd_Kd a16) = true := ok_o15 a16 e_a16
          subst e_a16
          refine nd_aload_n (j := 2) dX1_serve_90 rfl rfl ?_
          refine nd_getP (k := 11) dX1_serve_91 k_this rfl (Nat.le_of_ble_eq_true rfl) (nd_flO q295) rfl (fun ok17 => ?_)
          replace hf := nnE hf
          obtain ⟨a18, e_a18, hf⟩ := hf
          refine nd_topr e_a18.symm ?_
          have k_a18 : nd_Kd a18 = 22 := nd_c1 (ok17 a18 e_a18)
          refine nd_iload_n (j := 1) dX1_serve_94 rfl rfl ?_
          replace hf := ckE hf
          obtain ⟨c19, hf⟩ := hf
          refine nd_zald dX1_serve_95 k_a18 c19 ?_
          refine nd_if_eq (tgt := 107) dX1_serve_96 (by decide) (fun c20 => ?_) (fun c20 => ?_)
          · replace hf := ifp c20 hf
            refine nd_aload_n (j := 2) dX1_serve_107 rfl rfl ?_
            refine nd_aload_n (j := 2) dX1_serve_108 rfl rfl ?_
            refine nd_getP (k := 8) dX1_serve_109 k_this rfl (Nat.le_of_ble_eq_true rfl) (nd_flO q292) rfl (fun ok21 => ?_)
            replace hf := nnE hf
            obtain ⟨a22, e_a22, hf⟩ := hf
            refine nd_topr e_a22.symm ?_
            have k_a22 : nd_Kd a22 = 24 := nd_c1 (ok21 a22 e_a22)
            refine nd_iload_n (j := 0) dX1_serve_112 rfl rfl ?_
            replace hf := ckE hf
            obtain ⟨c23, hf⟩ := hf
            refine nd_aald (t := 4) (C := "NotationDesk$Type") dX1_serve_113 k_a22 (by decide) (fun _ => rfl) c23 (fun ok24 => ?_)
            replace hf := bnE hf
            obtain ⟨o25, e_o25, hf⟩ := hf
            refine nd_topr e_o25 ?_
            have ok_o25 : ∀ b, o25 = some b → [6, 7, 8, 9, 11, 12].contains (nd_Kd b) = true := fun b q => ok24 b (e_o25 ▸ q)
            refine nd_iconst (v := 3) dX1_serve_114 (by decide) ?_
            refine nd_aload_n (j := 2) dX1_serve_115 rfl rfl ?_
            refine nd_getP (k := 9) dX1_serve_116 k_this rfl (Nat.le_of_ble_eq_true rfl) (nd_flO q293) rfl (fun ok26 => ?_)
            replace hf := nnE hf
            obtain ⟨a27, e_a27, hf⟩ := hf
            refine nd_topr e_a27.symm ?_
            have k_a27 : nd_Kd a27 = 20 := nd_c1 (ok26 a27 e_a27)
            refine nd_iload_n (j := 0) dX1_serve_119 rfl rfl ?_
            replace hf := ckE hf
            obtain ⟨c28, hf⟩ := hf
            refine nd_iald dX1_serve_120 k_a27 c28 ?_
            replace hf := nnE hf
            obtain ⟨a29, e_a29, hf⟩ := hf
            have k_a29 : [6, 7, 8, 9, 11, 12].contains (nd_Kd a29) = true := ok_o25 a29 e_a29
            subst e_a29
            replace hf := caE hf
            obtain ⟨v31, h30, e_h30, hf⟩ := hf
            refine nd_Vr [] (tX1_read l w hfl F d k_this k_a29 e_h30) rfl dX1_serve_121 mw_X1_read (Or.inl q856) k_this rfl q858 qs19 (by omega) (by omega) (Nat.le_of_ble_eq_true rfl) (fun ok32 => ?_)
            have ok_v31 : ∀ b, v31 = some b → [13].contains (nd_Kd b) = true := fun b q => okT13 (ok32 b q)
            refine nd_astore_n [(3, vr v31), (2, vi v9), (1, vi s0), (0, vr (some this))] dX1_serve_124 rfl (Nat.le_of_ble_eq_true rfl) rfl ?_
            refine nd_aload_n (j := 0) dX1_serve_125 rfl rfl ?_
            refine nd_ifnonnull (tgt := 144) dX1_serve_126 (by decide) (fun e_a33 => ?_) (fun a33 e_a33 => ?_)
            · replace hf := ocN e_a33 hf
              subst e_a33
              refine nd_aload_n (j := 3) dX1_serve_129 rfl rfl ?_
              refine nd_getP (k := 11) dX1_serve_130 k_this rfl (Nat.le_of_ble_eq_true rfl) (nd_flO q295) rfl (fun ok34 => ?_)
              replace hf := nnE hf
              obtain ⟨a35, e_a35, hf⟩ := hf
              refine nd_topr e_a35.symm ?_
              have k_a35 : nd_Kd a35 = 22 := nd_c1 (ok34 a35 e_a35)
              refine nd_iload_n (j := 2) dX1_serve_133 rfl rfl ?_
              refine nd_iconst (v := 1) dX1_serve_134 (by decide) ?_
              replace hf := ckE hf
              obtain ⟨c36, hf⟩ := hf
              refine nd_zast dX1_serve_135 k_a35 c36 (by decide) ?_
              replace hf := bnE hf
              obtain ⟨h37, e_h37, hf⟩ := hf
              refine nd_hp e_h37 ?_
              refine nd_aload_n (j := 3) dX1_serve_136 rfl rfl ?_
              refine nd_iconst (v := 3) dX1_serve_137 (by decide) ?_
              refine nd_iload_n (j := 2) dX1_serve_138 rfl rfl ?_
              refine nd_iconst (v := 0) dX1_serve_139 (by decide) ?_
              replace hf := caE hf
              obtain ⟨v39, h38, e_h38, hf⟩ := hf
              refine nd_Vi [] (tX1_replies l w hfl F d k_this e_h38) rfl dX1_serve_140 mw_X1_replies (Or.inl q1326) k_this rfl q1328 qs28 (by omega) (by omega) (Nat.le_of_ble_eq_true rfl) ?_
              cases hf
              exact nd_iret (v := v39) dX1_serve_143
            · replace hf := ocS e_a33 hf
              have k_a33 : nd_Kd a33 = 13 := nd_c1 (ok_v31 a33 e_a33)
              subst e_a33
              refine nd_aload_n (j := 3) dX1_serve_144 rfl rfl ?_
              refine nd_aload_n (j := 3) dX1_serve_145 rfl rfl ?_
              refine nd_getP (k := 8) dX1_serve_146 k_this rfl (Nat.le_of_ble_eq_true rfl) (nd_flO q292) rfl (fun ok40 => ?_)
              replace hf := nnE hf
              obtain ⟨a41, e_a41, hf⟩ := hf
              refine nd_topr e_a41.symm ?_
              have k_a41 : nd_Kd a41 = 24 := nd_c1 (ok40 a41 e_a41)
              refine nd_iload_n (j := 1) dX1_serve_149 rfl rfl ?_
              replace hf := ckE hf
              obtain ⟨c42, hf⟩ := hf
              refine nd_aald (t := 4) (C := "NotationDesk$Type") dX1_serve_150 k_a41 (by decide) (fun _ => rfl) c42 (fun ok43 => ?_)
              replace hf := bnE hf
              obtain ⟨o44, e_o44, hf⟩ := hf
              refine nd_topr e_o44 ?_
              have ok_o44 : ∀ b, o44 = some b → [6, 7, 8, 9, 11, 12].contains (nd_Kd b) = true := fun b q => ok43 b (e_o44 ▸ q)
              refine nd_aload_n (j := 0) dX1_serve_151 rfl rfl ?_
              refine nd_aload_n (j := 3) dX1_serve_152 rfl rfl ?_
              refine nd_getP (k := 10) dX1_serve_153 k_this rfl (Nat.le_of_ble_eq_true rfl) (nd_flO q294) rfl (fun ok45 => ?_)
              replace hf := nnE hf
              obtain ⟨a46, e_a46, hf⟩ := hf
              refine nd_topr e_a46.symm ?_
              have k_a46 : nd_Kd a46 = 20 := nd_c1 (ok45 a46 e_a46)
              refine nd_iload_n (j := 1) dX1_serve_156 rfl rfl ?_
              replace hf := ckE hf
              obtain ⟨c47, hf⟩ := hf
              refine nd_iald dX1_serve_157 k_a46 c47 ?_
              replace hf := nnE hf
              obtain ⟨a48, e_a48, hf⟩ := hf
              have k_a48 : [6, 7, 8, 9, 11, 12].contains (nd_Kd a48) = true := ok_o44 a48 e_a48
              subst e_a48
              replace hf := cvE hf
              obtain ⟨h49, e_h49, hf⟩ := hf
              refine nd_Vv [] (tX1_write l w hfl F d k_this k_a48 k_a33 e_h49) rfl dX1_serve_158 mw_X1_write (Or.inl q1105) k_this rfl q1107 qs22 (by omega) (by omega) (Nat.le_of_ble_eq_true rfl) ?_
              refine nd_aload_n (j := 3) dX1_serve_161 rfl rfl ?_
              refine nd_getP (k := 7) dX1_serve_162 k_this rfl (Nat.le_of_ble_eq_true rfl) (nd_flO q291) rfl (fun ok51 => ?_)
              replace hf := nnE hf
              obtain ⟨a52, e_a52, hf⟩ := hf
              refine nd_topr e_a52.symm ?_
              have k_a52 : nd_Kd a52 = 4 := nd_c1 (ok51 a52 e_a52)
              replace hf := caE hf
              obtain ⟨v54, h53, e_h53, hf⟩ := hf
              refine nd_Vi [] (tX5_size l w hfl F d k_a52 e_h53) rfl dX1_serve_165 mw_X5_size (Or.inl q1270) k_a52 rfl q1235 q1236 (by omega) (by omega) (Nat.le_of_ble_eq_true rfl) ?_
              refine nd_iconst (v := 3) dX1_serve_168 (by decide) ?_
              refine nd_iadd dX1_serve_169 ?_
              refine nd_bipush (v := 120) dX1_serve_170 (by decide) ?_
              refine nd_icmp_le (tgt := 183) dX1_serve_172 (by decide) (fun c55 => ?_) (fun c55 => ?_)
              · replace hf := ifp c55 hf
                refine nd_aload_n (j := 3) dX1_serve_183 rfl rfl ?_
                refine nd_getP (k := 11) dX1_serve_184 k_this rfl (Nat.le_of_ble_eq_true rfl) (nd_flO q295) rfl (fun ok56 => ?_)
                replace hf := nnE hf
                obtain ⟨a57, e_a57, hf⟩ := hf
                refine nd_topr e_a57.symm ?_
                have k_a57 : nd_Kd a57 = 22 := nd_c1 (ok56 a57 e_a57)
                refine nd_iload_n (j := 2) dX1_serve_187 rfl rfl ?_
                refine nd_iconst (v := 1) dX1_serve_188 (by decide) ?_
                replace hf := ckE hf
                obtain ⟨c58, hf⟩ := hf
                refine nd_zast dX1_serve_189 k_a57 c58 (by decide) ?_
                replace hf := bnE hf
                obtain ⟨h59, e_h59, hf⟩ := hf
                refine nd_hp e_h59 ?_
                refine nd_aload_n (j := 3) dX1_serve_190 rfl rfl ?_
                refine nd_iconst (v := 2) dX1_serve_191 (by decide) ?_
                refine nd_iload_n (j := 2) dX1_serve_192 rfl rfl ?_
                refine nd_iload_n (j := 1) dX1_serve_193 rfl rfl ?_
                replace hf := caE hf
                obtain ⟨v61, h60, e_h60, hf⟩ := hf
                refine nd_Vi [] (tX1_replies l w hfl F d k_this e_h60) rfl dX1_serve_194 mw_X1_replies (Or.inl q1326) k_this rfl q1328 qs28 (by omega) (by omega) (Nat.le_of_ble_eq_true rfl) ?_
                refine nd_pop dX1_serve_197 rfl ?_
                refine nd_iconst (v := 0) dX1_serve_198 (by decide) ?_
                refine nd_istore [(4, vi 0), (3, vr (some a33)), (2, vi v9), (1, vi s0), (0, vr (some this))] dX1_serve_199 (Nat.le_of_ble_eq_true rfl) rfl ?_
                exact nd_loc [4, 1, 0] rfl (tX1_serve_201 l w hfl F d r F _ _ _ k_this k_a33 _ hf)
              · replace hf := ifn c55 hf
                refine nd_aload_n (j := 3) dX1_serve_175 rfl rfl ?_
                refine nd_iconst (v := 4) dX1_serve_176 (by decide) ?_
                refine nd_iload_n (j := 2) dX1_serve_177 rfl rfl ?_
                refine nd_iconst (v := 4) dX1_serve_178 (by decide) ?_
                replace hf := caE hf
                obtain ⟨v63, h62, e_h62, hf⟩ := hf
                refine nd_Vi [] (tX1_replies l w hfl F d k_this e_h62) rfl dX1_serve_179 mw_X1_replies (Or.inl q1326) k_this rfl q1328 qs28 (by omega) (by omega) (Nat.le_of_ble_eq_true rfl) ?_
                cases hf
                exact nd_iret (v := v63) dX1_serve_182
          · replace hf := ifn c20 hf
            refine nd_aload_n (j := 2) dX1_serve_99 rfl rfl ?_
            refine nd_iconst (v := 4) dX1_serve_100 (by decide) ?_
            refine nd_iload_n (j := 1) dX1_serve_101 rfl rfl ?_
            refine nd_iconst (v := 3) dX1_serve_102 (by decide) ?_
            replace hf := caE hf
            obtain ⟨v65, h64, e_h64, hf⟩ := hf
            refine nd_Vi [] (tX1_replies l w hfl F d k_this e_h64) rfl dX1_serve_103 mw_X1_replies (Or.inl q1326) k_this rfl q1328 qs28 (by omega) (by omega) (Nat.le_of_ble_eq_true rfl) ?_
            cases hf
            exact nd_iret (v := v65) dX1_serve_106
    · replace hf := ifn c5 hf
      exact nd_loc [1, 0] rfl (tX1_serve_52 l w hfl F d r _ _ k_this _ hf)
set_option maxHeartbeats 4000000 in
theorem tX1_serve (l : Launch) (w : Wd) (hfl : l.stackTraces = false) (F d : Nat) {this : Nat} (k_this : nd_Kd this = 0) {h : Hp} {r : (Int32 ⊕ Nat) × Hp} (hf : fX1_serve F d this h = some r) : nd_C l w yX1_serve cX1_serve 5 (some .int) (6 + 8 * d) (103 + 400 * d) [vr (some this)] h (rxi r) := by
  refine nd_start (as := [vr (some this)]) hfl (by decide) (Nat.le_of_ble_eq_true rfl) ?_
  unfold fX1_serve at hf
  refine nd_eqL (L' := [(0, vr (some this))]) rfl ?_
  refine nd_aload_n (j := 0) dX1_serve_0 rfl rfl ?_
  refine nd_getI (k := 1) dX1_serve_1 k_this rfl (Nat.le_of_ble_eq_true rfl) (nd_flO q285) rfl ?_
  refine nd_if_ne (tgt := 15) dX1_serve_4 (by decide) (fun c1 => ?_) (fun c1 => ?_)
  · replace hf := ifn c1 hf
    refine nd_aload_n (j := 0) dX1_serve_15 rfl rfl ?_
    refine nd_getI (k := 3) dX1_serve_16 k_this rfl (Nat.le_of_ble_eq_true rfl) (nd_flO q287) rfl ?_
    refine nd_iconst (v := 2) dX1_serve_19 (by decide) ?_
    refine nd_icmp_ge (tgt := 27) dX1_serve_20 (by decide) (fun c2 => ?_) (fun c2 => ?_)
    · replace hf := ifp c2 hf
      refine nd_aload_n (j := 0) dX1_serve_27 rfl rfl ?_
      refine nd_getP (k := 2) dX1_serve_28 k_this rfl (Nat.le_of_ble_eq_true rfl) (nd_flO q286) rfl (fun ok3 => ?_)
      replace hf := nnE hf
      obtain ⟨a4, e_a4, hf⟩ := hf
      refine nd_topr e_a4.symm ?_
      have k_a4 : nd_Kd a4 = 20 := nd_c1 (ok3 a4 e_a4)
      refine nd_iconst (v := 1) dX1_serve_31 (by decide) ?_
      replace hf := ckE hf
      obtain ⟨c5, hf⟩ := hf
      refine nd_iald dX1_serve_32 k_a4 c5 ?_
      exact nd_loc [0] rfl (tX1_serve_33 l w hfl F d r _ _ k_this _ hf)
    · replace hf := ifn c2 hf
      refine nd_iconst (v := 0) dX1_serve_23 (by decide) ?_
      refine nd_goto (tgt := 33) dX1_serve_24 (by decide) ?_
      exact nd_loc [0] rfl (tX1_serve_33 l w hfl F d r _ _ k_this _ hf)
  · replace hf := ifp c1 hf
    cases hf
    exact nd_throw 1 rfl dX1_serve_7 dX1_serve_10 dX1_serve_11 dX1_serve_14 (by decide +kernel) nd_xa1 nd_xg1 q826 q109 (by omega) (by show 0 + 81 ≤ _; omega)
def fX1_transcode_93 (F d : Nat) : Nat → Nat → Nat → Int32 → Hp → Option ((Int32 ⊕ Nat) × Hp)
  | 0, _, _, _, _ => none
  | n + 1, this, x5, x6, h =>
    if (gI h 103 this) ≤ x6 then
    (cv (fX1_keep F d this x5 h) fun h2 => (
    some (.inl (gI h2 103 this), h2)))
    else
    (nn (gP h 102 this) fun a5 => (
    nn (gP h 107 this) fun a7 => (
    nn (gP h 500 a7) fun a9 => (
    ck (inb x6 (nd_Ln a9)) (
    ck (inb x6 (nd_Ln a5)) (
    bn (sA h a5 (Int32.toNatClampNeg x6) (gA h a9 (Int32.toNatClampNeg x6))) fun h12 => (
    bn (x6 + 1) fun v13 => (
    fX1_transcode_93 F d n this x5 v13 h12))))))))
def fX1_transcode_23 (F d : Nat) (this : Nat) (x1 : Int32) (x2 : Int32) (x3 : Int32) (s0 : Int32) (h : Hp) : Option ((Int32 ⊕ Nat) × Hp) :=
  cx (fX1_need F d s0 h) fun _ h1 => (
  cx (fX1_named F d this x1 h1) fun v4 h3 => (
  nn v4 fun a6 => (
  ca (fX1_read F d this a6 0 x2 h3) fun v8 h7 => (
  oc v8
  (some (.inl (-1), h7))
  (fun a10 =>
  cv (fX1_write F d this a6 a10 x3 h7) fun h11 => (
  nn (gP h11 107 this) fun a14 => (
  ca (fX5_size F d a14 h11) fun v16 h15 => (
  if v16 ≤ 120 then
  (nn (gP h15 107 this) fun a19 => (
  ca (fX5_size F d a19 h15) fun v21 h20 => (
  bn (sI h20 103 this v21) fun h22 => (
  fX1_transcode_93 F d F this a10 0 h22))))
  else
  (some (.inr 3, nx h15 6))))))))))
def fX1_transcode_22 (F d : Nat) (this : Nat) (x1 : Int32) (x2 : Int32) (x3 : Int32) (h : Hp) : Option ((Int32 ⊕ Nat) × Hp) :=
  fX1_transcode_23 F d this x1 x2 x3 0 h
def fX1_transcode (F d : Nat) (this : Nat) (p0 : Int32) (p1 : Int32) (p2 : Int32) (h : Hp) : Option ((Int32 ⊕ Nat) × Hp) :=
  ca (fX1_outside F d p1 0 2 h) fun v2 h1 => (
  if v2 = 0 then
  (ca (fX1_outside F d p2 1 2 h1) fun v5 h4 => (
  if v5 = 0 then
  (fX1_transcode_23 F d this p0 p1 p2 1 h4)
  else
  (fX1_transcode_22 F d this p0 p1 p2 h4)))
  else
  (fX1_transcode_22 F d this p0 p1 p2 h1))
set_option maxHeartbeats 4000000 in
theorem tX1_transcode_93 (l : Launch) (w : Wd) (hfl : l.stackTraces = false) (F d : Nat) (r : (Int32 ⊕ Nat) × Hp) : ∀ (n : Nat) (this : Nat) (x5 : Nat) (x6 : Int32) (k_this : nd_Kd this = 0) (k_x5 : nd_Kd x5 = 13) (h : Hp), fX1_transcode_93 F d n this x5 x6 h = some r → nd_V l w yX1_transcode cX1_transcode 7 (some .int) (7 + 8 * d) (122 + 400 * d) (rxi r) h 93 [(0, vr (some this)), (5, vr (some x5)), (6, vi x6)] [] := by
  intro n
  induction n with
  | zero => intro _ _ _ _ _ _ hf; cases hf
  | succ n ih =>
    intro this x5 x6 k_this k_x5 h hf
    unfold fX1_transcode_93 at hf
    refine nd_iload (j := 2) dX1_transcode_93 rfl ?_
    refine nd_aload_n (j := 0) dX1_transcode_95 rfl rfl ?_
    refine nd_getI (k := 3) dX1_transcode_96 k_this rfl (Nat.le_of_ble_eq_true rfl) (nd_flO q287) rfl ?_
    refine nd_icmp_ge (tgt := 125) dX1_transcode_99 (by decide) (fun c1 => ?_) (fun c1 => ?_)
    · replace hf := ifp c1 hf
      refine nd_aload_n (j := 0) dX1_transcode_125 rfl rfl ?_
      refine nd_aload (j := 1) dX1_transcode_126 rfl ?_
      replace hf := cvE hf
      obtain ⟨h2, e_h2, hf⟩ := hf
      refine nd_Vv [] (tX1_keep l w hfl F d k_this k_x5 e_h2) rfl dX1_transcode_128 mw_X1_keep (Or.inl q1286) k_this rfl q1288 qs26 (by omega) (by omega) (Nat.le_of_ble_eq_true rfl) ?_
      refine nd_aload_n (j := 0) dX1_transcode_131 rfl rfl ?_
      refine nd_getI (k := 3) dX1_transcode_132 k_this rfl (Nat.le_of_ble_eq_true rfl) (nd_flO q287) rfl ?_
      cases hf
      exact nd_iret (v := (gI h2 103 this)) dX1_transcode_135
    · replace hf := ifn c1 hf
      refine nd_aload_n (j := 0) dX1_transcode_102 rfl rfl ?_
      refine nd_getP (k := 2) dX1_transcode_103 k_this rfl (Nat.le_of_ble_eq_true rfl) (nd_flO q286) rfl (fun ok4 => ?_)
      replace hf := nnE hf
      obtain ⟨a5, e_a5, hf⟩ := hf
      refine nd_topr e_a5.symm ?_
      have k_a5 : nd_Kd a5 = 20 := nd_c1 (ok4 a5 e_a5)
      refine nd_iload (j := 2) dX1_transcode_106 rfl ?_
      refine nd_aload_n (j := 0) dX1_transcode_108 rfl rfl ?_
      refine nd_getP (k := 7) dX1_transcode_109 k_this rfl (Nat.le_of_ble_eq_true rfl) (nd_flO q291) rfl (fun ok6 => ?_)
      replace hf := nnE hf
      obtain ⟨a7, e_a7, hf⟩ := hf
      refine nd_topr e_a7.symm ?_
      have k_a7 : nd_Kd a7 = 4 := nd_c1 (ok6 a7 e_a7)
      refine nd_getP (k := 0) dX1_transcode_112 k_a7 rfl (Nat.le_of_ble_eq_true rfl) (nd_flN q271) rfl (fun ok8 => ?_)
      replace hf := nnE hf
      obtain ⟨a9, e_a9, hf⟩ := hf
      refine nd_topr e_a9.symm ?_
      have k_a9 : nd_Kd a9 = 20 := nd_c1 (ok8 a9 e_a9)
      refine nd_iload (j := 2) dX1_transcode_115 rfl ?_
      replace hf := ckE hf
      obtain ⟨c10, hf⟩ := hf
      refine nd_iald dX1_transcode_117 k_a9 c10 ?_
      replace hf := ckE hf
      obtain ⟨c11, hf⟩ := hf
      refine nd_iast dX1_transcode_118 k_a5 c11 ?_
      replace hf := bnE hf
      obtain ⟨h12, e_h12, hf⟩ := hf
      refine nd_hp e_h12 ?_
      replace hf := bnE hf
      obtain ⟨v13, e_v13, hf⟩ := hf
      refine nd_iinc (v := v13) (j := 2) [(6, vi v13), (0, vr (some this)), (5, vr (some x5))] dX1_transcode_119 rfl (by rw [e_v13]; rfl) (Nat.le_of_ble_eq_true rfl) rfl ?_
      refine nd_goto (tgt := 93) dX1_transcode_122 (by decide) ?_
      exact nd_loc [1, 2, 0] rfl (ih _ _ _ k_this k_x5 _ hf)
set_option maxHeartbeats 4000000 in
theorem tX1_transcode_23 (l : Launch) (w : Wd) (hfl : l.stackTraces = false) (F d : Nat) (r : (Int32 ⊕ Nat) × Hp) (this : Nat) (x1 : Int32) (x2 : Int32) (x3 : Int32) (s0 : Int32) (k_this : nd_Kd this = 0) (h : Hp) (hf : fX1_transcode_23 F d this x1 x2 x3 s0 h = some r) : nd_V l w yX1_transcode cX1_transcode 7 (some .int) (7 + 8 * d) (122 + 400 * d) (rxi r) h 23 [(0, vr (some this)), (1, vi x1), (2, vi x2), (3, vi x3)] [vi s0] := by
  unfold fX1_transcode_23 at hf
  replace hf := cxE hf
  rcases hf with ⟨v2, h1, e_h1, hf⟩ | ⟨x_, h1, e_h1, rfl⟩
  rotate_left
  · exact nd_SvX [] (tX1_need l w hfl F d e_h1) rfl dX1_transcode_23 mw_X1_need (Or.inl q804) q805 (by omega) (by omega) (Nat.le_of_ble_eq_true rfl) (by decide)
  refine nd_Sv [] (tX1_need l w hfl F d e_h1) rfl dX1_transcode_23 mw_X1_need (Or.inl q804) q805 (by omega) (by omega) (Nat.le_of_ble_eq_true rfl) ?_
  refine nd_aload_n (j := 0) dX1_transcode_26 rfl rfl ?_
  refine nd_iload_n (j := 1) dX1_transcode_27 rfl rfl ?_
  replace hf := cxE hf
  rcases hf with ⟨v4, h3, e_h3, hf⟩ | ⟨x_, h3, e_h3, rfl⟩
  rotate_left
  · exact nd_VvX [] (tX1_named l w hfl F d k_this e_h3) rfl dX1_transcode_28 mw_X1_named (Or.inl q822) k_this rfl q824 qs18 (by omega) (by omega) (Nat.le_of_ble_eq_true rfl) (by decide)
  refine nd_Vr [] (tX1_named l w hfl F d k_this e_h3) rfl dX1_transcode_28 mw_X1_named (Or.inl q822) k_this rfl q824 qs18 (by omega) (by omega) (Nat.le_of_ble_eq_true rfl) (fun ok5 => ?_)
  have ok_v4 : ∀ b, v4 = some b → [6, 7, 8, 9, 11, 12].contains (nd_Kd b) = true := fun b q => okT99 (ok5 b q)
  refine nd_astore [(4, vr v4), (0, vr (some this)), (1, vi x1), (2, vi x2), (3, vi x3)] dX1_transcode_31 (Nat.le_of_ble_eq_true rfl) rfl ?_
  refine nd_aload_n (j := 1) dX1_transcode_33 rfl rfl ?_
  refine nd_aload (j := 0) dX1_transcode_34 rfl ?_
  refine nd_iconst (v := 0) dX1_transcode_36 (by decide) ?_
  refine nd_iload_n (j := 3) dX1_transcode_37 rfl rfl ?_
  replace hf := nnE hf
  obtain ⟨a6, e_a6, hf⟩ := hf
  have k_a6 : [6, 7, 8, 9, 11, 12].contains (nd_Kd a6) = true := ok_v4 a6 e_a6
  subst e_a6
  replace hf := caE hf
  obtain ⟨v8, h7, e_h7, hf⟩ := hf
  refine nd_Vr [] (tX1_read l w hfl F d k_this k_a6 e_h7) rfl dX1_transcode_38 mw_X1_read (Or.inl q856) k_this rfl q858 qs19 (by omega) (by omega) (Nat.le_of_ble_eq_true rfl) (fun ok9 => ?_)
  have ok_v8 : ∀ b, v8 = some b → [13].contains (nd_Kd b) = true := fun b q => okT13 (ok9 b q)
  refine nd_astore [(5, vr v8), (4, vr (some a6)), (0, vr (some this)), (1, vi x1), (2, vi x2), (3, vi x3)] dX1_transcode_41 (Nat.le_of_ble_eq_true rfl) rfl ?_
  refine nd_aload (j := 0) dX1_transcode_43 rfl ?_
  refine nd_ifnonnull (tgt := 50) dX1_transcode_45 (by decide) (fun e_a10 => ?_) (fun a10 e_a10 => ?_)
  · replace hf := ocN e_a10 hf
    subst e_a10
    refine nd_iconst (v := (-1)) dX1_transcode_48 (by decide) ?_
    cases hf
    exact nd_iret (v := (-1)) dX1_transcode_49
  · replace hf := ocS e_a10 hf
    have k_a10 : nd_Kd a10 = 13 := nd_c1 (ok_v8 a10 e_a10)
    subst e_a10
    refine nd_aload_n (j := 2) dX1_transcode_50 rfl rfl ?_
    refine nd_aload (j := 1) dX1_transcode_51 rfl ?_
    refine nd_aload (j := 0) dX1_transcode_53 rfl ?_
    refine nd_iload_n (j := 5) dX1_transcode_55 rfl rfl ?_
    replace hf := cvE hf
    obtain ⟨h11, e_h11, hf⟩ := hf
    refine nd_Vv [] (tX1_write l w hfl F d k_this k_a6 k_a10 e_h11) rfl dX1_transcode_56 mw_X1_write (Or.inl q1105) k_this rfl q1107 qs22 (by omega) (by omega) (Nat.le_of_ble_eq_true rfl) ?_
    refine nd_aload_n (j := 2) dX1_transcode_59 rfl rfl ?_
    refine nd_getP (k := 7) dX1_transcode_60 k_this rfl (Nat.le_of_ble_eq_true rfl) (nd_flO q291) rfl (fun ok13 => ?_)
    replace hf := nnE hf
    obtain ⟨a14, e_a14, hf⟩ := hf
    refine nd_topr e_a14.symm ?_
    have k_a14 : nd_Kd a14 = 4 := nd_c1 (ok13 a14 e_a14)
    replace hf := caE hf
    obtain ⟨v16, h15, e_h15, hf⟩ := hf
    refine nd_Vi [] (tX5_size l w hfl F d k_a14 e_h15) rfl dX1_transcode_63 mw_X5_size (Or.inl q1270) k_a14 rfl q1235 q1236 (by omega) (by omega) (Nat.le_of_ble_eq_true rfl) ?_
    refine nd_bipush (v := 120) dX1_transcode_66 (by decide) ?_
    refine nd_icmp_le (tgt := 79) dX1_transcode_68 (by decide) (fun c17 => ?_) (fun c17 => ?_)
    · replace hf := ifp c17 hf
      refine nd_aload_n (j := 2) dX1_transcode_79 rfl rfl ?_
      refine nd_aload_n (j := 2) dX1_transcode_80 rfl rfl ?_
      refine nd_getP (k := 7) dX1_transcode_81 k_this rfl (Nat.le_of_ble_eq_true rfl) (nd_flO q291) rfl (fun ok18 => ?_)
      replace hf := nnE hf
      obtain ⟨a19, e_a19, hf⟩ := hf
      refine nd_topr e_a19.symm ?_
      have k_a19 : nd_Kd a19 = 4 := nd_c1 (ok18 a19 e_a19)
      replace hf := caE hf
      obtain ⟨v21, h20, e_h20, hf⟩ := hf
      refine nd_Vi [vr (some this)] (tX5_size l w hfl F d k_a19 e_h20) rfl dX1_transcode_84 mw_X5_size (Or.inl q1270) k_a19 rfl q1235 q1236 (by omega) (by omega) (Nat.le_of_ble_eq_true rfl) ?_
      refine nd_putN (k := 3) dX1_transcode_87 k_this rfl (Nat.le_of_ble_eq_true rfl) (nd_flO q287) rfl rfl rfl ?_
      replace hf := bnE hf
      obtain ⟨h22, e_h22, hf⟩ := hf
      refine nd_hp e_h22 ?_
      refine nd_iconst (v := 0) dX1_transcode_90 (by decide) ?_
      refine nd_istore [(6, vi 0), (5, vr (some a10)), (4, vr (some a6)), (0, vr (some this)), (1, vi x1), (2, vi x2), (3, vi x3)] dX1_transcode_91 (Nat.le_of_ble_eq_true rfl) rfl ?_
      exact nd_loc [3, 1, 0] rfl (tX1_transcode_93 l w hfl F d r F _ _ _ k_this k_a10 _ hf)
    · replace hf := ifn c17 hf
      cases hf
      exact nd_throw 3 rfl dX1_transcode_71 dX1_transcode_74 dX1_transcode_75 dX1_transcode_78 (by decide +kernel) nd_xa3 nd_xg3 q1271 q112 (by omega) (by show 0 + 81 ≤ _; omega)
set_option maxHeartbeats 4000000 in
theorem tX1_transcode_22 (l : Launch) (w : Wd) (hfl : l.stackTraces = false) (F d : Nat) (r : (Int32 ⊕ Nat) × Hp) (this : Nat) (x1 : Int32) (x2 : Int32) (x3 : Int32) (k_this : nd_Kd this = 0) (h : Hp) (hf : fX1_transcode_22 F d this x1 x2 x3 h = some r) : nd_V l w yX1_transcode cX1_transcode 7 (some .int) (7 + 8 * d) (122 + 400 * d) (rxi r) h 22 [(0, vr (some this)), (1, vi x1), (2, vi x2), (3, vi x3)] [] := by
  unfold fX1_transcode_22 at hf
  refine nd_iconst (v := 0) dX1_transcode_22 (by decide) ?_
  exact nd_loc [0, 1, 2, 3] rfl (tX1_transcode_23 l w hfl F d r _ _ _ _ _ k_this _ hf)
set_option maxHeartbeats 4000000 in
theorem tX1_transcode (l : Launch) (w : Wd) (hfl : l.stackTraces = false) (F d : Nat) {this : Nat} {p0 : Int32} {p1 : Int32} {p2 : Int32} (k_this : nd_Kd this = 0) {h : Hp} {r : (Int32 ⊕ Nat) × Hp} (hf : fX1_transcode F d this p0 p1 p2 h = some r) : nd_C l w yX1_transcode cX1_transcode 7 (some .int) (7 + 8 * d) (122 + 400 * d) [vr (some this), vi p0, vi p1, vi p2] h (rxi r) := by
  refine nd_start (as := [vr (some this), vi p0, vi p1, vi p2]) hfl (by decide) (Nat.le_of_ble_eq_true rfl) ?_
  unfold fX1_transcode at hf
  refine nd_eqL (L' := [(0, vr (some this)), (1, vi p0), (2, vi p1), (3, vi p2)]) rfl ?_
  refine nd_iload_n (j := 2) dX1_transcode_0 rfl rfl ?_
  refine nd_iconst (v := 0) dX1_transcode_1 (by decide) ?_
  refine nd_iconst (v := 2) dX1_transcode_2 (by decide) ?_
  replace hf := caE hf
  obtain ⟨v2, h1, e_h1, hf⟩ := hf
  refine nd_Si [] (tX1_outside l w hfl F d e_h1) rfl dX1_transcode_3 mw_X1_outside (Or.inl q676) q516 (by omega) (by omega) (Nat.le_of_ble_eq_true rfl) ?_
  refine nd_if_ne (tgt := 22) dX1_transcode_6 (by decide) (fun c3 => ?_) (fun c3 => ?_)
  · replace hf := ifn c3 hf
    exact nd_loc [0, 1, 2, 3] rfl (tX1_transcode_22 l w hfl F d r _ _ _ _ k_this _ hf)
  · replace hf := ifp c3 hf
    refine nd_iload_n (j := 3) dX1_transcode_9 rfl rfl ?_
    refine nd_iconst (v := 1) dX1_transcode_10 (by decide) ?_
    refine nd_iconst (v := 2) dX1_transcode_11 (by decide) ?_
    replace hf := caE hf
    obtain ⟨v5, h4, e_h4, hf⟩ := hf
    refine nd_Si [] (tX1_outside l w hfl F d e_h4) rfl dX1_transcode_12 mw_X1_outside (Or.inl q676) q516 (by omega) (by omega) (Nat.le_of_ble_eq_true rfl) ?_
    refine nd_if_ne (tgt := 22) dX1_transcode_15 (by decide) (fun c6 => ?_) (fun c6 => ?_)
    · replace hf := ifn c6 hf
      exact nd_loc [0, 1, 2, 3] rfl (tX1_transcode_22 l w hfl F d r _ _ _ _ k_this _ hf)
    · replace hf := ifp c6 hf
      refine nd_iconst (v := 1) dX1_transcode_18 (by decide) ?_
      refine nd_goto (tgt := 23) dX1_transcode_19 (by decide) ?_
      exact nd_loc [0, 1, 2, 3] rfl (tX1_transcode_23 l w hfl F d r _ _ _ _ _ k_this _ hf)
def fX1_type (F d : Nat) (this : Nat) (p0 : Int32) (h : Hp) : Option (Int32 × Hp) :=
  nn (gP h 100 this) fun a2 => (
  if (gI h 201 a2) < 150 then
  (nn (gP h 100 this) fun a5 => (
  nn (gP h 200 a5) fun a7 => (
  nn (gP h 100 this) fun a9 => (
  ck (inb (gI h 201 a9) (nd_Ln a7)) (
  ck (isCh p0) (
  bn (sA h a7 (Int32.toNatClampNeg (gI h 201 a9)) p0) fun h11 => (
  nn (gP h11 100 this) fun a14 => (
  bn (sI h11 201 a14 ((gI h11 201 a14) + 1)) fun h15 => (
  cv (fX1_forget F d this h15) fun h16 => (
  some (1, h16)))))))))))
  else
  (some (0, h)))
set_option maxHeartbeats 4000000 in
theorem tX1_type (l : Launch) (w : Wd) (hfl : l.stackTraces = false) (F d : Nat) {this : Nat} {p0 : Int32} (k_this : nd_Kd this = 0) {h : Hp} {r : Int32 × Hp} (hf : fX1_type F d this p0 h = some r) : nd_C l w yX1_type cX1_type 2 (some .boolean) 2 41 [vr (some this), vi p0] h (.inl (some (vi r.1)), r.2) := by
  refine nd_start (as := [vr (some this), vi p0]) hfl (by decide) (Nat.le_of_ble_eq_true rfl) ?_
  unfold fX1_type at hf
  refine nd_eqL (L' := [(0, vr (some this)), (1, vi p0)]) rfl ?_
  refine nd_aload_n (j := 0) dX1_type_0 rfl rfl ?_
  refine nd_getP (k := 0) dX1_type_1 k_this rfl (Nat.le_of_ble_eq_true rfl) (nd_flO q284) rfl (fun ok1 => ?_)
  replace hf := nnE hf
  obtain ⟨a2, e_a2, hf⟩ := hf
  refine nd_topr e_a2.symm ?_
  have k_a2 : nd_Kd a2 = 1 := nd_c1 (ok1 a2 e_a2)
  refine nd_getI (k := 1) dX1_type_4 k_a2 rfl (Nat.le_of_ble_eq_true rfl) (nd_flN q144) rfl ?_
  refine nd_sipush (v := 150) dX1_type_7 (by decide) ?_
  refine nd_icmp_lt (tgt := 15) dX1_type_10 (by decide) (fun c3 => ?_) (fun c3 => ?_)
  · replace hf := ifp c3 hf
    refine nd_aload_n (j := 0) dX1_type_15 rfl rfl ?_
    refine nd_getP (k := 0) dX1_type_16 k_this rfl (Nat.le_of_ble_eq_true rfl) (nd_flO q284) rfl (fun ok4 => ?_)
    replace hf := nnE hf
    obtain ⟨a5, e_a5, hf⟩ := hf
    refine nd_topr e_a5.symm ?_
    have k_a5 : nd_Kd a5 = 1 := nd_c1 (ok4 a5 e_a5)
    refine nd_getP (k := 0) dX1_type_19 k_a5 rfl (Nat.le_of_ble_eq_true rfl) (nd_flN q142) rfl (fun ok6 => ?_)
    replace hf := nnE hf
    obtain ⟨a7, e_a7, hf⟩ := hf
    refine nd_topr e_a7.symm ?_
    have k_a7 : nd_Kd a7 = 21 := nd_c1 (ok6 a7 e_a7)
    refine nd_aload_n (j := 0) dX1_type_22 rfl rfl ?_
    refine nd_getP (k := 0) dX1_type_23 k_this rfl (Nat.le_of_ble_eq_true rfl) (nd_flO q284) rfl (fun ok8 => ?_)
    replace hf := nnE hf
    obtain ⟨a9, e_a9, hf⟩ := hf
    refine nd_topr e_a9.symm ?_
    have k_a9 : nd_Kd a9 = 1 := nd_c1 (ok8 a9 e_a9)
    refine nd_getI (k := 1) dX1_type_26 k_a9 rfl (Nat.le_of_ble_eq_true rfl) (nd_flN q144) rfl ?_
    refine nd_iload_n (j := 1) dX1_type_29 rfl rfl ?_
    replace hf := ckE hf
    obtain ⟨c10, hf⟩ := hf
    replace hf := ckE hf
    obtain ⟨c12, hf⟩ := hf
    refine nd_cast dX1_type_30 k_a7 c10 c12 ?_
    replace hf := bnE hf
    obtain ⟨h11, e_h11, hf⟩ := hf
    refine nd_hp e_h11 ?_
    refine nd_aload_n (j := 0) dX1_type_31 rfl rfl ?_
    refine nd_getP (k := 0) dX1_type_32 k_this rfl (Nat.le_of_ble_eq_true rfl) (nd_flO q284) rfl (fun ok13 => ?_)
    replace hf := nnE hf
    obtain ⟨a14, e_a14, hf⟩ := hf
    refine nd_topr e_a14.symm ?_
    have k_a14 : nd_Kd a14 = 1 := nd_c1 (ok13 a14 e_a14)
    refine nd_dup dX1_type_35 rfl ?_
    refine nd_getI (k := 1) dX1_type_36 k_a14 rfl (Nat.le_of_ble_eq_true rfl) (nd_flN q144) rfl ?_
    refine nd_iconst (v := 1) dX1_type_39 (by decide) ?_
    refine nd_iadd dX1_type_40 ?_
    refine nd_putN (k := 1) dX1_type_41 k_a14 rfl (Nat.le_of_ble_eq_true rfl) (nd_flN q144) rfl rfl rfl ?_
    replace hf := bnE hf
    obtain ⟨h15, e_h15, hf⟩ := hf
    refine nd_hp e_h15 ?_
    refine nd_aload_n (j := 0) dX1_type_44 rfl rfl ?_
    replace hf := cvE hf
    obtain ⟨h16, e_h16, hf⟩ := hf
    refine nd_Vv [] (tX1_forget l w hfl F d k_this e_h16) rfl dX1_type_45 mw_X1_forget (Or.inl q326) k_this rfl q328 qs0 (by omega) (by omega) (Nat.le_of_ble_eq_true rfl) ?_
    refine nd_iconst (v := 1) dX1_type_48 (by decide) ?_
    cases hf
    exact nd_zret (v := 1) (by decide) dX1_type_49
  · replace hf := ifn c3 hf
    refine nd_iconst (v := 0) dX1_type_13 (by decide) ?_
    cases hf
    exact nd_zret (v := 0) (by decide) dX1_type_14
def fX1_wipe (F d : Nat) (this : Nat) (h : Hp) : Option (Int32 × Hp) :=
  bn (gI h 103 this) fun v1 => (
  bn (sI h 103 this 0) fun h2 => (
  some (v1, h2)))
set_option maxHeartbeats 4000000 in
theorem tX1_wipe (l : Launch) (w : Wd) (hfl : l.stackTraces = false) (F d : Nat) {this : Nat} (k_this : nd_Kd this = 0) {h : Hp} {r : Int32 × Hp} (hf : fX1_wipe F d this h = some r) : nd_C l w yX1_wipe cX1_wipe 2 (some .int) 0 0 [vr (some this)] h (.inl (some (vi r.1)), r.2) := by
  refine nd_start (as := [vr (some this)]) hfl (by decide) (Nat.le_of_ble_eq_true rfl) ?_
  unfold fX1_wipe at hf
  refine nd_eqL (L' := [(0, vr (some this))]) rfl ?_
  refine nd_aload_n (j := 0) dX1_wipe_0 rfl rfl ?_
  refine nd_getI (k := 3) dX1_wipe_1 k_this rfl (Nat.le_of_ble_eq_true rfl) (nd_flO q287) rfl ?_
  replace hf := bnE hf
  obtain ⟨v1, e_v1, hf⟩ := hf
  refine nd_top e_v1 ?_
  refine nd_istore_n [(1, vi v1), (0, vr (some this))] dX1_wipe_4 rfl (Nat.le_of_ble_eq_true rfl) rfl ?_
  refine nd_aload_n (j := 1) dX1_wipe_5 rfl rfl ?_
  refine nd_iconst (v := 0) dX1_wipe_6 (by decide) ?_
  refine nd_putN (k := 3) dX1_wipe_7 k_this rfl (Nat.le_of_ble_eq_true rfl) (nd_flO q287) rfl rfl rfl ?_
  replace hf := bnE hf
  obtain ⟨h2, e_h2, hf⟩ := hf
  refine nd_hp e_h2 ?_
  refine nd_iload_n (j := 0) dX1_wipe_10 rfl rfl ?_
  cases hf
  exact nd_iret (v := v1) dX1_wipe_11
