set_option maxRecDepth 100000
def fX7_init (F d : Nat) (this : Nat) (h : Hp) : Option (Hp) :=
  some h
set_option maxHeartbeats 4000000 in
theorem tX7_init (l : Launch) (w : Wd) (hfl : l.stackTraces = false) (F d : Nat) {this : Nat} (k_this : [6, 7, 8, 9, 11, 12].contains (nd_Kd this) = true) {h : Hp} {r : Hp} (hf : fX7_init F d this h = some r) : nd_C l w yX7_init cX7_init 1 none 1 40 [vr (some this)] h (.inl none, r) := by
  refine nd_start (as := [vr (some this)]) hfl (by decide) (Nat.le_of_ble_eq_true rfl) ?_
  unfold fX7_init at hf
  refine nd_eqL (L' := [(0, vr (some this))]) rfl ?_
  refine nd_aload_n (j := 0) dX7_init_0 rfl rfl ?_
  refine nd_obj dX7_init_1 q423 q119 q120 (Nat.le_of_ble_eq_true rfl) (Nat.le_of_ble_eq_true rfl) ?_
  cases hf
  exact nd_vret dX7_init_4
def fX10_init (F d : Nat) (this : Nat) (h : Hp) : Option (Hp) :=
  cv (fX7_init F d this h) fun h1 => (
  bn (this + 1) fun n5 => (
  ck (freA h1 n5 24 6) (
  bn (nw h1 n5 6) fun h4 => (
  bn (sP h4 1000 this (some n5)) fun h6 => (
  some h6)))))
set_option maxHeartbeats 4000000 in
theorem tX10_init (l : Launch) (w : Wd) (hfl : l.stackTraces = false) (F d : Nat) {this : Nat} (k_this : [7, 8].contains (nd_Kd this) = true) {h : Hp} {r : Hp} (hf : fX10_init F d this h = some r) : nd_C l w yX10_init cX10_init 1 none 2 60 [vr (some this)] h (.inl none, r) := by
  refine nd_start (as := [vr (some this)]) hfl (by decide) (Nat.le_of_ble_eq_true rfl) ?_
  unfold fX10_init at hf
  refine nd_eqL (L' := [(0, vr (some this))]) rfl ?_
  refine nd_aload_n (j := 0) dX10_init_0 rfl rfl ?_
  replace hf := cvE hf
  obtain ⟨h1, e_h1, hf⟩ := hf
  refine nd_Iv [] (tX7_init l w hfl F d (nd_p2 (P := True) k_this (fun e _ => by rw [e]; rfl) (fun e _ => by rw [e]; rfl) trivial) e_h1) rfl dX10_init_1 mw_X7_init (Or.inr ⟨_, q473⟩) q421 rfl (by omega) (by omega) (Nat.le_of_ble_eq_true rfl) ?_
  refine nd_aload_n (j := 0) dX10_init_4 rfl rfl ?_
  refine nd_bipush (v := 6) dX10_init_5 (by decide) ?_
  replace hf := bnE hf
  obtain ⟨n5, e_n5, hf⟩ := hf
  replace hf := ckE hf
  obtain ⟨c3, hf⟩ := hf
  refine nd_newR (n := n5) (z := 6) (t := 4) (ka := 24) dX10_init_7 q474 q128 (by decide) rfl (fun _ => rfl) (by decide +kernel) (by decide) (Nat.le_of_ble_eq_true rfl) c3 ?_
  replace hf := bnE hf
  obtain ⟨h4, e_h4, hf⟩ := hf
  refine nd_hp e_h4 ?_
  have k_n5 : nd_Kd n5 = 24 := (freAE c3).2.1
  refine nd_p2 k_this (fun k1_ kk_ => nd_putF (k := 0) (f := 1000) dX10_init_10 k1_ rfl (Nat.le_of_ble_eq_true rfl) q479 rfl rfl rfl rfl rfl (fun b e => by cases e; rw [k_n5]; rfl) kk_) (fun k1_ kk_ => nd_putF (k := 0) (f := 1000) dX10_init_10 k1_ rfl (Nat.le_of_ble_eq_true rfl) q479 rfl rfl rfl rfl rfl (fun b e => by cases e; rw [k_n5]; rfl) kk_) ?_
  replace hf := bnE hf
  obtain ⟨h6, e_h6, hf⟩ := hf
  refine nd_hp e_h6 ?_
  cases hf
  exact nd_vret dX10_init_13
def fX12_init (F d : Nat) (this : Nat) (h : Hp) : Option (Hp) :=
  cv (fX10_init F d this h) fun h1 => (
  some h1)
set_option maxHeartbeats 4000000 in
theorem tX12_init (l : Launch) (w : Wd) (hfl : l.stackTraces = false) (F d : Nat) {this : Nat} (k_this : nd_Kd this = 8) {h : Hp} {r : Hp} (hf : fX12_init F d this h = some r) : nd_C l w yX12_init cX12_init 1 none 3 80 [vr (some this)] h (.inl none, r) := by
  refine nd_start (as := [vr (some this)]) hfl (by decide) (Nat.le_of_ble_eq_true rfl) ?_
  unfold fX12_init at hf
  refine nd_eqL (L' := [(0, vr (some this))]) rfl ?_
  refine nd_aload_n (j := 0) dX12_init_0 rfl rfl ?_
  replace hf := cvE hf
  obtain ⟨h1, e_h1, hf⟩ := hf
  refine nd_Iv [] (tX10_init l w hfl F d (by rw [k_this]; rfl) e_h1) rfl dX12_init_1 mw_X10_init (Or.inr ⟨_, q569⟩) q471 rfl (by omega) (by omega) (Nat.le_of_ble_eq_true rfl) ?_
  cases hf
  exact nd_vret dX12_init_4
def fX12_isChoice (F d : Nat) (this : Nat) (h : Hp) : Option (Int32 × Hp) :=
  some (1, h)
set_option maxHeartbeats 4000000 in
theorem tX12_isChoice (l : Launch) (w : Wd) (hfl : l.stackTraces = false) (F d : Nat) {this : Nat} (k_this : nd_Kd this = 8) {h : Hp} {r : Int32 × Hp} (hf : fX12_isChoice F d this h = some r) : nd_C l w yX12_isChoice cX12_isChoice 1 (some .boolean) 0 0 [vr (some this)] h (.inl (some (vi r.1)), r.2) := by
  refine nd_start (as := [vr (some this)]) hfl (by decide) (Nat.le_of_ble_eq_true rfl) ?_
  unfold fX12_isChoice at hf
  refine nd_eqL (L' := [(0, vr (some this))]) rfl ?_
  refine nd_iconst (v := 1) dX12_isChoice_0 (by decide) ?_
  cases hf
  exact nd_zret (v := 1) (by decide) dX12_isChoice_1
def fX12_tags_4 (F d : Nat) (R_tags : Nat → Hp → Option (Int32 × Hp)) : Nat → Nat → Int32 → Int32 → Hp → Option (Int32 × Hp)
  | 0, _, _, _, _ => none
  | n + 1, this, x1, x2, h =>
    if (gI h 1001 this) ≤ x2 then
    (some (x1, h))
    else
    (nn (gP h 1000 this) fun a3 => (
    ck (inb x2 (nd_Ln a3)) (
    bn (gR h a3 (Int32.toNatClampNeg x2)) fun o6 => (
    nn o6 fun a7 => (
    ca (R_tags a7 h) fun v9 h8 => (
    bn (x1 ||| v9) fun v10 => (
    bn (x2 + 1) fun v11 => (
    fX12_tags_4 F d R_tags n this v10 v11 h8))))))))
def fX12_tags (F d : Nat) (R_tags : Nat → Hp → Option (Int32 × Hp)) (this : Nat) (h : Hp) : Option (Int32 × Hp) :=
  fX12_tags_4 F d R_tags F this 0 0 h
set_option maxHeartbeats 4000000 in
theorem tX12_tags_4 (l : Launch) (w : Wd) (hfl : l.stackTraces = false) (F d : Nat) (R_tags : Nat → Hp → Option (Int32 × Hp)) (hR_tags : ∀ {b : Nat} (k_b : [6, 7, 8, 9, 11, 12].contains (nd_Kd b) = true) {h : Hp} {r : Int32 × Hp}, R_tags b h = some r → nc_tags l w b (1 + 8 * d) (30 + 400 * d) [vr (some b)] h (.inl (some (vi r.1)), r.2)) (r : Int32 × Hp) : ∀ (n : Nat) (this : Nat) (x1 : Int32) (x2 : Int32) (k_this : nd_Kd this = 8) (h : Hp), fX12_tags_4 F d R_tags n this x1 x2 h = some r → nd_V l w yX12_tags cX12_tags 3 (some .int) (2 + 8 * d) (52 + 400 * d) (.inl (some (vi r.1)), r.2) h 4 [(0, vr (some this)), (1, vi x1), (2, vi x2)] [] := by
  intro n
  induction n with
  | zero => intro _ _ _ _ _ hf; cases hf
  | succ n ih =>
    intro this x1 x2 k_this h hf
    unfold fX12_tags_4 at hf
    refine nd_iload_n (j := 2) dX12_tags_4 rfl rfl ?_
    refine nd_aload_n (j := 0) dX12_tags_5 rfl rfl ?_
    refine nd_getI (k := 1) dX12_tags_6 k_this rfl (Nat.le_of_ble_eq_true rfl) (nd_flS q485 q486) rfl ?_
    refine nd_icmp_ge (tgt := 30) dX12_tags_9 (by decide) (fun c1 => ?_) (fun c1 => ?_)
    · replace hf := ifp c1 hf
      refine nd_iload_n (j := 1) dX12_tags_30 rfl rfl ?_
      cases hf
      exact nd_iret (v := x1) dX12_tags_31
    · replace hf := ifn c1 hf
      refine nd_iload_n (j := 1) dX12_tags_12 rfl rfl ?_
      refine nd_aload_n (j := 0) dX12_tags_13 rfl rfl ?_
      refine nd_getP (k := 0) dX12_tags_14 k_this rfl (Nat.le_of_ble_eq_true rfl) (nd_flS q480 q481) rfl (fun ok2 => ?_)
      replace hf := nnE hf
      obtain ⟨a3, e_a3, hf⟩ := hf
      refine nd_topr e_a3.symm ?_
      have k_a3 : nd_Kd a3 = 24 := nd_c1 (ok2 a3 e_a3)
      refine nd_iload_n (j := 2) dX12_tags_17 rfl rfl ?_
      replace hf := ckE hf
      obtain ⟨c4, hf⟩ := hf
      refine nd_aald (t := 4) (C := "NotationDesk$Type") dX12_tags_18 k_a3 (by decide) (fun _ => rfl) c4 (fun ok5 => ?_)
      replace hf := bnE hf
      obtain ⟨o6, e_o6, hf⟩ := hf
      refine nd_topr e_o6 ?_
      have ok_o6 : ∀ b, o6 = some b → [6, 7, 8, 9, 11, 12].contains (nd_Kd b) = true := fun b q => ok5 b (e_o6 ▸ q)
      replace hf := nnE hf
      obtain ⟨a7, e_a7, hf⟩ := hf
      have k_a7 : [6, 7, 8, 9, 11, 12].contains (nd_Kd a7) = true := ok_o6 a7 e_a7
      subst e_a7
      replace hf := caE hf
      obtain ⟨v9, h8, e_h8, hf⟩ := hf
      refine nd_v_tags [vi x1] (hR_tags k_a7 e_h8) rfl dX12_tags_19 q546 k_a7 (by omega) (by omega) (Nat.le_of_ble_eq_true rfl) ?_
      refine nd_ior dX12_tags_22 ?_
      replace hf := bnE hf
      obtain ⟨v10, e_v10, hf⟩ := hf
      refine nd_top e_v10 ?_
      refine nd_istore_n [(1, vi v10), (0, vr (some this)), (2, vi x2)] dX12_tags_23 rfl (Nat.le_of_ble_eq_true rfl) rfl ?_
      replace hf := bnE hf
      obtain ⟨v11, e_v11, hf⟩ := hf
      refine nd_iinc (v := v11) (j := 2) [(2, vi v11), (1, vi v10), (0, vr (some this))] dX12_tags_24 rfl (by rw [e_v11]; rfl) (Nat.le_of_ble_eq_true rfl) rfl ?_
      refine nd_goto (tgt := 4) dX12_tags_27 (by decide) ?_
      exact nd_loc [2, 1, 0] rfl (ih _ _ _ k_this _ hf)
set_option maxHeartbeats 4000000 in
theorem tX12_tags (l : Launch) (w : Wd) (hfl : l.stackTraces = false) (F d : Nat) (R_tags : Nat → Hp → Option (Int32 × Hp)) (hR_tags : ∀ {b : Nat} (k_b : [6, 7, 8, 9, 11, 12].contains (nd_Kd b) = true) {h : Hp} {r : Int32 × Hp}, R_tags b h = some r → nc_tags l w b (1 + 8 * d) (30 + 400 * d) [vr (some b)] h (.inl (some (vi r.1)), r.2)) {this : Nat} (k_this : nd_Kd this = 8) {h : Hp} {r : Int32 × Hp} (hf : fX12_tags F d R_tags this h = some r) : nd_C l w yX12_tags cX12_tags 3 (some .int) (2 + 8 * d) (52 + 400 * d) [vr (some this)] h (.inl (some (vi r.1)), r.2) := by
  refine nd_start (as := [vr (some this)]) hfl (by decide) (Nat.le_of_ble_eq_true rfl) ?_
  unfold fX12_tags at hf
  refine nd_eqL (L' := [(0, vr (some this))]) rfl ?_
  refine nd_iconst (v := 0) dX12_tags_0 (by decide) ?_
  refine nd_istore_n [(1, vi 0), (0, vr (some this))] dX12_tags_1 rfl (Nat.le_of_ble_eq_true rfl) rfl ?_
  refine nd_iconst (v := 0) dX12_tags_2 (by decide) ?_
  refine nd_istore_n [(2, vi 0), (1, vi 0), (0, vr (some this))] dX12_tags_3 rfl (Nat.le_of_ble_eq_true rfl) rfl ?_
  exact nd_loc [2, 1, 0] rfl (tX12_tags_4 l w hfl F d R_tags hR_tags r F _ _ _ k_this _ hf)
def fX11_tags (F d : Nat) (this : Nat) (h : Hp) : Option (Int32 × Hp) :=
  some (65536, h)
set_option maxHeartbeats 4000000 in
theorem tX11_tags (l : Launch) (w : Wd) (hfl : l.stackTraces = false) (F d : Nat) {this : Nat} (k_this : nd_Kd this = 7) {h : Hp} {r : Int32 × Hp} (hf : fX11_tags F d this h = some r) : nd_C l w yX11_tags cX11_tags 1 (some .int) 0 0 [vr (some this)] h (.inl (some (vi r.1)), r.2) := by
  refine nd_start (as := [vr (some this)]) hfl (by decide) (Nat.le_of_ble_eq_true rfl) ?_
  unfold fX11_tags at hf
  refine nd_eqL (L' := [(0, vr (some this))]) rfl ?_
  refine nd_ldc (v := 65536) dX11_tags_0 q551 ?_
  cases hf
  exact nd_iret (v := 65536) dX11_tags_2
def fX15_tags (F d : Nat) (this : Nat) (h : Hp) : Option (Int32 × Hp) :=
  some (65536, h)
set_option maxHeartbeats 4000000 in
theorem tX15_tags (l : Launch) (w : Wd) (hfl : l.stackTraces = false) (F d : Nat) {this : Nat} (k_this : nd_Kd this = 11) {h : Hp} {r : Int32 × Hp} (hf : fX15_tags F d this h = some r) : nd_C l w yX15_tags cX15_tags 1 (some .int) 0 0 [vr (some this)] h (.inl (some (vi r.1)), r.2) := by
  refine nd_start (as := [vr (some this)]) hfl (by decide) (Nat.le_of_ble_eq_true rfl) ?_
  unfold fX15_tags at hf
  refine nd_eqL (L' := [(0, vr (some this))]) rfl ?_
  refine nd_ldc (v := 65536) dX15_tags_0 q554 ?_
  cases hf
  exact nd_iret (v := 65536) dX15_tags_2
def fX8_tags (F d : Nat) (this : Nat) (h : Hp) : Option (Int32 × Hp) :=
  some ((1 <<< ((gI h 800 this) &&& 31)), h)
set_option maxHeartbeats 4000000 in
theorem tX8_tags (l : Launch) (w : Wd) (hfl : l.stackTraces = false) (F d : Nat) {this : Nat} (k_this : [6, 9].contains (nd_Kd this) = true) {h : Hp} {r : Int32 × Hp} (hf : fX8_tags F d this h = some r) : nd_C l w yX8_tags cX8_tags 1 (some .int) 0 0 [vr (some this)] h (.inl (some (vi r.1)), r.2) := by
  refine nd_start (as := [vr (some this)]) hfl (by decide) (Nat.le_of_ble_eq_true rfl) ?_
  unfold fX8_tags at hf
  refine nd_eqL (L' := [(0, vr (some this))]) rfl ?_
  refine nd_iconst (v := 1) dX8_tags_0 (by decide) ?_
  refine nd_aload_n (j := 0) dX8_tags_1 rfl rfl ?_
  refine nd_p2 k_this (fun k1_ kk_ => nd_getI (k := 0) dX8_tags_2 k1_ rfl (Nat.le_of_ble_eq_true rfl) (nd_flO q428) rfl kk_) (fun k1_ kk_ => nd_getI (k := 0) dX8_tags_2 k1_ rfl (Nat.le_of_ble_eq_true rfl) (nd_flO q428) rfl kk_) ?_
  refine nd_ishl dX8_tags_5 ?_
  cases hf
  exact nd_iret (v := (1 <<< ((gI h 800 this) &&& 31))) dX8_tags_6
def fX16_tags (F d : Nat) (this : Nat) (h : Hp) : Option (Int32 × Hp) :=
  some ((1 <<< ((20 + (gI h 1600 this)) &&& 31)), h)
set_option maxHeartbeats 4000000 in
theorem tX16_tags (l : Launch) (w : Wd) (hfl : l.stackTraces = false) (F d : Nat) {this : Nat} (k_this : nd_Kd this = 12) {h : Hp} {r : Int32 × Hp} (hf : fX16_tags F d this h = some r) : nd_C l w yX16_tags cX16_tags 1 (some .int) 0 0 [vr (some this)] h (.inl (some (vi r.1)), r.2) := by
  refine nd_start (as := [vr (some this)]) hfl (by decide) (Nat.le_of_ble_eq_true rfl) ?_
  unfold fX16_tags at hf
  refine nd_eqL (L' := [(0, vr (some this))]) rfl ?_
  refine nd_iconst (v := 1) dX16_tags_0 (by decide) ?_
  refine nd_bipush (v := 20) dX16_tags_1 (by decide) ?_
  refine nd_aload_n (j := 0) dX16_tags_3 rfl rfl ?_
  refine nd_getI (k := 0) dX16_tags_4 k_this rfl (Nat.le_of_ble_eq_true rfl) (nd_flO q646) rfl ?_
  refine nd_iadd dX16_tags_7 ?_
  refine nd_ishl dX16_tags_8 ?_
  cases hf
  exact nd_iret (v := (1 <<< ((20 + (gI h 1600 this)) &&& 31))) dX16_tags_9
def v_tags (F : Nat) : Nat → Nat → Hp → Option (Int32 × Hp)
  | 0, _, _ => none
  | d + 1, b, h =>
    if nd_Kd b = 6 then fX8_tags F d b h
    else if nd_Kd b = 7 then fX11_tags F d b h
    else if nd_Kd b = 8 then fX12_tags F d (v_tags F d) b h
    else if nd_Kd b = 9 then fX8_tags F d b h
    else if nd_Kd b = 11 then fX15_tags F d b h
    else if nd_Kd b = 12 then fX16_tags F d b h
    else none
set_option maxHeartbeats 4000000 in
theorem tv_tags (l : Launch) (w : Wd) (hfl : l.stackTraces = false) (F : Nat) : ∀ (d : Nat) {b : Nat} (k_b : [6, 7, 8, 9, 11, 12].contains (nd_Kd b) = true) {h : Hp} {r : Int32 × Hp}, v_tags F d b h = some r → nc_tags l w b (1 + 8 * d) (30 + 400 * d) [vr (some b)] h (.inl (some (vi r.1)), r.2) := by
  intro d
  induction d with
  | zero => intro b k_b h r hf; cases hf
  | succ d ih =>
    intro b k_b h r hf
    unfold v_tags at hf
    refine ⟨fun e_ => ?_, fun e_ => ?_, fun e_ => ?_, fun e_ => ?_, fun e_ => ?_, fun e_ => ?_⟩
    · rw [if_pos e_] at hf
      exact nd_C.room (tX8_tags l w hfl F d (by rw [e_]; rfl) hf) (by omega) (by omega)
    · rw [if_neg (by omega)] at hf; rw [if_pos e_] at hf
      exact nd_C.room (tX11_tags l w hfl F d e_ hf) (by omega) (by omega)
    · rw [if_neg (by omega)] at hf; rw [if_neg (by omega)] at hf; rw [if_pos e_] at hf
      exact nd_C.room (tX12_tags l w hfl F d (v_tags F d) (ih) e_ hf) (by omega) (by omega)
    · rw [if_neg (by omega)] at hf; rw [if_neg (by omega)] at hf; rw [if_neg (by omega)] at hf; rw [if_pos e_] at hf
      exact nd_C.room (tX8_tags l w hfl F d (by rw [e_]; rfl) hf) (by omega) (by omega)
    · rw [if_neg (by omega)] at hf; rw [if_neg (by omega)] at hf; rw [if_neg (by omega)] at hf; rw [if_neg (by omega)] at hf; rw [if_pos e_] at hf
      exact nd_C.room (tX15_tags l w hfl F d e_ hf) (by omega) (by omega)
    · rw [if_neg (by omega)] at hf; rw [if_neg (by omega)] at hf; rw [if_neg (by omega)] at hf; rw [if_neg (by omega)] at hf; rw [if_neg (by omega)] at hf; rw [if_pos e_] at hf
      exact nd_C.room (tX16_tags l w hfl F d e_ hf) (by omega) (by omega)
def fX12_isDistinct_4 (F d : Nat) : Nat → Nat → Int32 → Int32 → Hp → Option (Int32 × Hp)
  | 0, _, _, _, _ => none
  | n + 1, this, x1, x2, h =>
    if (gI h 1001 this) ≤ x2 then
    (some (1, h))
    else
    (nn (gP h 1000 this) fun a3 => (
    ck (inb x2 (nd_Ln a3)) (
    bn (gR h a3 (Int32.toNatClampNeg x2)) fun o6 => (
    nn o6 fun a7 => (
    ca (v_tags F d a7 h) fun v9 h8 => (
    if (x1 &&& v9) = 0 then
    (nn (gP h8 1000 this) fun a12 => (
    ck (inb x2 (nd_Ln a12)) (
    bn (gR h8 a12 (Int32.toNatClampNeg x2)) fun o15 => (
    nn o15 fun a16 => (
    ca (v_tags F d a16 h8) fun v18 h17 => (
    bn (x1 ||| v18) fun v19 => (
    bn (x2 + 1) fun v20 => (
    fX12_isDistinct_4 F d n this v19 v20 h17))))))))
    else
    (some (0, h8))))))))
def fX12_isDistinct (F d : Nat) (this : Nat) (h : Hp) : Option (Int32 × Hp) :=
  fX12_isDistinct_4 F d F this 0 0 h
set_option maxHeartbeats 4000000 in
theorem tX12_isDistinct_4 (l : Launch) (w : Wd) (hfl : l.stackTraces = false) (F d : Nat) (r : Int32 × Hp) : ∀ (n : Nat) (this : Nat) (x1 : Int32) (x2 : Int32) (k_this : nd_Kd this = 8) (h : Hp), fX12_isDistinct_4 F d n this x1 x2 h = some r → nd_V l w yX12_isDistinct cX12_isDistinct 3 (some .boolean) (2 + 8 * d) (52 + 400 * d) (.inl (some (vi r.1)), r.2) h 4 [(0, vr (some this)), (1, vi x1), (2, vi x2)] [] := by
  intro n
  induction n with
  | zero => intro _ _ _ _ _ hf; cases hf
  | succ n ih =>
    intro this x1 x2 k_this h hf
    unfold fX12_isDistinct_4 at hf
    refine nd_iload_n (j := 2) dX12_isDistinct_4 rfl rfl ?_
    refine nd_aload_n (j := 0) dX12_isDistinct_5 rfl rfl ?_
    refine nd_getI (k := 1) dX12_isDistinct_6 k_this rfl (Nat.le_of_ble_eq_true rfl) (nd_flS q485 q486) rfl ?_
    refine nd_icmp_ge (tgt := 46) dX12_isDistinct_9 (by decide) (fun c1 => ?_) (fun c1 => ?_)
    · replace hf := ifp c1 hf
      refine nd_iconst (v := 1) dX12_isDistinct_46 (by decide) ?_
      cases hf
      exact nd_zret (v := 1) (by decide) dX12_isDistinct_47
    · replace hf := ifn c1 hf
      refine nd_iload_n (j := 1) dX12_isDistinct_12 rfl rfl ?_
      refine nd_aload_n (j := 0) dX12_isDistinct_13 rfl rfl ?_
      refine nd_getP (k := 0) dX12_isDistinct_14 k_this rfl (Nat.le_of_ble_eq_true rfl) (nd_flS q480 q481) rfl (fun ok2 => ?_)
      replace hf := nnE hf
      obtain ⟨a3, e_a3, hf⟩ := hf
      refine nd_topr e_a3.symm ?_
      have k_a3 : nd_Kd a3 = 24 := nd_c1 (ok2 a3 e_a3)
      refine nd_iload_n (j := 2) dX12_isDistinct_17 rfl rfl ?_
      replace hf := ckE hf
      obtain ⟨c4, hf⟩ := hf
      refine nd_aald (t := 4) (C := "NotationDesk$Type") dX12_isDistinct_18 k_a3 (by decide) (fun _ => rfl) c4 (fun ok5 => ?_)
      replace hf := bnE hf
      obtain ⟨o6, e_o6, hf⟩ := hf
      refine nd_topr e_o6 ?_
      have ok_o6 : ∀ b, o6 = some b → [6, 7, 8, 9, 11, 12].contains (nd_Kd b) = true := fun b q => ok5 b (e_o6 ▸ q)
      replace hf := nnE hf
      obtain ⟨a7, e_a7, hf⟩ := hf
      have k_a7 : [6, 7, 8, 9, 11, 12].contains (nd_Kd a7) = true := ok_o6 a7 e_a7
      subst e_a7
      replace hf := caE hf
      obtain ⟨v9, h8, e_h8, hf⟩ := hf
      refine nd_v_tags [vi x1] (tv_tags l w hfl F d k_a7 e_h8) rfl dX12_isDistinct_19 q546 k_a7 (by omega) (by omega) (Nat.le_of_ble_eq_true rfl) ?_
      refine nd_iand dX12_isDistinct_22 ?_
      refine nd_if_eq (tgt := 28) dX12_isDistinct_23 (by decide) (fun c10 => ?_) (fun c10 => ?_)
      · replace hf := ifp c10 hf
        refine nd_iload_n (j := 1) dX12_isDistinct_28 rfl rfl ?_
        refine nd_aload_n (j := 0) dX12_isDistinct_29 rfl rfl ?_
        refine nd_getP (k := 0) dX12_isDistinct_30 k_this rfl (Nat.le_of_ble_eq_true rfl) (nd_flS q480 q481) rfl (fun ok11 => ?_)
        replace hf := nnE hf
        obtain ⟨a12, e_a12, hf⟩ := hf
        refine nd_topr e_a12.symm ?_
        have k_a12 : nd_Kd a12 = 24 := nd_c1 (ok11 a12 e_a12)
        refine nd_iload_n (j := 2) dX12_isDistinct_33 rfl rfl ?_
        replace hf := ckE hf
        obtain ⟨c13, hf⟩ := hf
        refine nd_aald (t := 4) (C := "NotationDesk$Type") dX12_isDistinct_34 k_a12 (by decide) (fun _ => rfl) c13 (fun ok14 => ?_)
        replace hf := bnE hf
        obtain ⟨o15, e_o15, hf⟩ := hf
        refine nd_topr e_o15 ?_
        have ok_o15 : ∀ b, o15 = some b → [6, 7, 8, 9, 11, 12].contains (nd_Kd b) = true := fun b q => ok14 b (e_o15 ▸ q)
        replace hf := nnE hf
        obtain ⟨a16, e_a16, hf⟩ := hf
        have k_a16 : [6, 7, 8, 9, 11, 12].contains (nd_Kd a16) = true := ok_o15 a16 e_a16
        subst e_a16
        replace hf := caE hf
        obtain ⟨v18, h17, e_h17, hf⟩ := hf
        refine nd_v_tags [vi x1] (tv_tags l w hfl F d k_a16 e_h17) rfl dX12_isDistinct_35 q546 k_a16 (by omega) (by omega) (Nat.le_of_ble_eq_true rfl) ?_
        refine nd_ior dX12_isDistinct_38 ?_
        replace hf := bnE hf
        obtain ⟨v19, e_v19, hf⟩ := hf
        refine nd_top e_v19 ?_
        refine nd_istore_n [(1, vi v19), (0, vr (some this)), (2, vi x2)] dX12_isDistinct_39 rfl (Nat.le_of_ble_eq_true rfl) rfl ?_
        replace hf := bnE hf
        obtain ⟨v20, e_v20, hf⟩ := hf
        refine nd_iinc (v := v20) (j := 2) [(2, vi v20), (1, vi v19), (0, vr (some this))] dX12_isDistinct_40 rfl (by rw [e_v20]; rfl) (Nat.le_of_ble_eq_true rfl) rfl ?_
        refine nd_goto (tgt := 4) dX12_isDistinct_43 (by decide) ?_
        exact nd_loc [2, 1, 0] rfl (ih _ _ _ k_this _ hf)
      · replace hf := ifn c10 hf
        refine nd_iconst (v := 0) dX12_isDistinct_26 (by decide) ?_
        cases hf
        exact nd_zret (v := 0) (by decide) dX12_isDistinct_27
set_option maxHeartbeats 4000000 in
theorem tX12_isDistinct (l : Launch) (w : Wd) (hfl : l.stackTraces = false) (F d : Nat) {this : Nat} (k_this : nd_Kd this = 8) {h : Hp} {r : Int32 × Hp} (hf : fX12_isDistinct F d this h = some r) : nd_C l w yX12_isDistinct cX12_isDistinct 3 (some .boolean) (2 + 8 * d) (52 + 400 * d) [vr (some this)] h (.inl (some (vi r.1)), r.2) := by
  refine nd_start (as := [vr (some this)]) hfl (by decide) (Nat.le_of_ble_eq_true rfl) ?_
  unfold fX12_isDistinct at hf
  refine nd_eqL (L' := [(0, vr (some this))]) rfl ?_
  refine nd_iconst (v := 0) dX12_isDistinct_0 (by decide) ?_
  refine nd_istore_n [(1, vi 0), (0, vr (some this))] dX12_isDistinct_1 rfl (Nat.le_of_ble_eq_true rfl) rfl ?_
  refine nd_iconst (v := 0) dX12_isDistinct_2 (by decide) ?_
  refine nd_istore_n [(2, vi 0), (1, vi 0), (0, vr (some this))] dX12_isDistinct_3 rfl (Nat.le_of_ble_eq_true rfl) rfl ?_
  exact nd_loc [2, 1, 0] rfl (tX12_isDistinct_4 l w hfl F d r F _ _ _ k_this _ hf)
def fX12_least (F d : Nat) (p0 : Int32) (h : Hp) : Option (Int32 × Hp) :=
  some ((p0 &&& (-p0)), h)
set_option maxHeartbeats 4000000 in
theorem tX12_least (l : Launch) (w : Wd) (hfl : l.stackTraces = false) (F d : Nat) {p0 : Int32}  {h : Hp} {r : Int32 × Hp} (hf : fX12_least F d p0 h = some r) : nd_C l w yX12_least cX12_least 1 (some .int) 0 0 [vi p0] h (.inl (some (vi r.1)), r.2) := by
  refine nd_start (as := [vi p0]) hfl (by decide) (Nat.le_of_ble_eq_true rfl) ?_
  unfold fX12_least at hf
  refine nd_eqL (L' := [(0, vi p0)]) rfl ?_
  refine nd_iload_n (j := 0) dX12_least_0 rfl rfl ?_
  refine nd_iload_n (j := 0) dX12_least_1 rfl rfl ?_
  refine nd_ineg dX12_least_2 ?_
  refine nd_iand dX12_least_3 ?_
  cases hf
  exact nd_iret (v := (p0 &&& (-p0))) dX12_least_4
def fX12_rank_45 (F d : Nat) (k_4 : Nat → Int32 → Int32 → Int32 → Hp → Option (Int32 × Hp)) (this : Nat) (x1 : Int32) (x3 : Int32) (s0 : Int32) (s1 : Int32) (h : Hp) : Option (Int32 × Hp) :=
  bn (s0 + s1) fun v1 => (
  bn (x3 + 1) fun v2 => (
  k_4 this x1 v1 v2 h))
def fX12_rank_4 (F d : Nat) : Nat → Nat → Int32 → Int32 → Int32 → Hp → Option (Int32 × Hp)
  | 0, _, _, _, _, _ => none
  | n + 1, this, x1, x2, x3, h =>
    if (gI h 1001 this) ≤ x3 then
    (some (x2, h))
    else
    (nn (gP h 1000 this) fun a3 => (
    ck (inb x3 (nd_Ln a3)) (
    bn (gR h a3 (Int32.toNatClampNeg x3)) fun o6 => (
    nn o6 fun a7 => (
    ca (v_tags F d a7 h) fun v9 h8 => (
    ca (fX12_least F d v9 h8) fun v11 h10 => (
    nn (gP h10 1000 this) fun a13 => (
    ck (inb x1 (nd_Ln a13)) (
    bn (gR h10 a13 (Int32.toNatClampNeg x1)) fun o16 => (
    nn o16 fun a17 => (
    ca (v_tags F d a17 h10) fun v19 h18 => (
    ca (fX12_least F d v19 h18) fun v21 h20 => (
    if v21 ≤ v11 then
    (fX12_rank_45 F d (fX12_rank_4 F d n) this x1 x3 x2 0 h20)
    else
    (fX12_rank_45 F d (fX12_rank_4 F d n) this x1 x3 x2 1 h20))))))))))))))
def fX12_rank (F d : Nat) (this : Nat) (p0 : Int32) (h : Hp) : Option (Int32 × Hp) :=
  fX12_rank_4 F d F this p0 0 0 h
set_option maxHeartbeats 4000000 in
theorem tX12_rank_45 (l : Launch) (w : Wd) (hfl : l.stackTraces = false) (F d : Nat) (r : Int32 × Hp) (k_4 : Nat → Int32 → Int32 → Int32 → Hp → Option (Int32 × Hp)) (hk_4 : ∀ (this : Nat) (x1 : Int32) (x2 : Int32) (x3 : Int32) (k_this : nd_Kd this = 8) (h : Hp), k_4 this x1 x2 x3 h = some r → nd_V l w yX12_rank cX12_rank 4 (some .int) (2 + 8 * d) (52 + 400 * d) (.inl (some (vi r.1)), r.2) h 4 [(0, vr (some this)), (1, vi x1), (2, vi x2), (3, vi x3)] []) (this : Nat) (x1 : Int32) (x3 : Int32) (s0 : Int32) (s1 : Int32) (k_this : nd_Kd this = 8) (h : Hp) (hf : fX12_rank_45 F d k_4 this x1 x3 s0 s1 h = some r) : nd_V l w yX12_rank cX12_rank 4 (some .int) (2 + 8 * d) (52 + 400 * d) (.inl (some (vi r.1)), r.2) h 45 [(0, vr (some this)), (1, vi x1), (3, vi x3)] [vi s1, vi s0] := by
  unfold fX12_rank_45 at hf
  refine nd_iadd dX12_rank_45 ?_
  replace hf := bnE hf
  obtain ⟨v1, e_v1, hf⟩ := hf
  refine nd_top e_v1 ?_
  refine nd_istore_n [(2, vi v1), (0, vr (some this)), (1, vi x1), (3, vi x3)] dX12_rank_46 rfl (Nat.le_of_ble_eq_true rfl) rfl ?_
  replace hf := bnE hf
  obtain ⟨v2, e_v2, hf⟩ := hf
  refine nd_iinc (v := v2) (j := 3) [(3, vi v2), (2, vi v1), (0, vr (some this)), (1, vi x1)] dX12_rank_47 rfl (by rw [e_v2]; rfl) (Nat.le_of_ble_eq_true rfl) rfl ?_
  refine nd_goto (tgt := 4) dX12_rank_50 (by decide) ?_
  exact nd_loc [2, 3, 1, 0] rfl (hk_4 _ _ _ _ k_this _ hf)
set_option maxHeartbeats 4000000 in
theorem tX12_rank_4 (l : Launch) (w : Wd) (hfl : l.stackTraces = false) (F d : Nat) (r : Int32 × Hp) : ∀ (n : Nat) (this : Nat) (x1 : Int32) (x2 : Int32) (x3 : Int32) (k_this : nd_Kd this = 8) (h : Hp), fX12_rank_4 F d n this x1 x2 x3 h = some r → nd_V l w yX12_rank cX12_rank 4 (some .int) (2 + 8 * d) (52 + 400 * d) (.inl (some (vi r.1)), r.2) h 4 [(0, vr (some this)), (1, vi x1), (2, vi x2), (3, vi x3)] [] := by
  intro n
  induction n with
  | zero => intro _ _ _ _ _ _ hf; cases hf
  | succ n ih =>
    intro this x1 x2 x3 k_this h hf
    unfold fX12_rank_4 at hf
    refine nd_iload_n (j := 3) dX12_rank_4 rfl rfl ?_
    refine nd_aload_n (j := 0) dX12_rank_5 rfl rfl ?_
    refine nd_getI (k := 1) dX12_rank_6 k_this rfl (Nat.le_of_ble_eq_true rfl) (nd_flS q485 q486) rfl ?_
    refine nd_icmp_ge (tgt := 53) dX12_rank_9 (by decide) (fun c1 => ?_) (fun c1 => ?_)
    · replace hf := ifp c1 hf
      refine nd_iload_n (j := 2) dX12_rank_53 rfl rfl ?_
      cases hf
      exact nd_iret (v := x2) dX12_rank_54
    · replace hf := ifn c1 hf
      refine nd_iload_n (j := 2) dX12_rank_12 rfl rfl ?_
      refine nd_aload_n (j := 0) dX12_rank_13 rfl rfl ?_
      refine nd_getP (k := 0) dX12_rank_14 k_this rfl (Nat.le_of_ble_eq_true rfl) (nd_flS q480 q481) rfl (fun ok2 => ?_)
      replace hf := nnE hf
      obtain ⟨a3, e_a3, hf⟩ := hf
      refine nd_topr e_a3.symm ?_
      have k_a3 : nd_Kd a3 = 24 := nd_c1 (ok2 a3 e_a3)
      refine nd_iload_n (j := 3) dX12_rank_17 rfl rfl ?_
      replace hf := ckE hf
      obtain ⟨c4, hf⟩ := hf
      refine nd_aald (t := 4) (C := "NotationDesk$Type") dX12_rank_18 k_a3 (by decide) (fun _ => rfl) c4 (fun ok5 => ?_)
      replace hf := bnE hf
      obtain ⟨o6, e_o6, hf⟩ := hf
      refine nd_topr e_o6 ?_
      have ok_o6 : ∀ b, o6 = some b → [6, 7, 8, 9, 11, 12].contains (nd_Kd b) = true := fun b q => ok5 b (e_o6 ▸ q)
      replace hf := nnE hf
      obtain ⟨a7, e_a7, hf⟩ := hf
      have k_a7 : [6, 7, 8, 9, 11, 12].contains (nd_Kd a7) = true := ok_o6 a7 e_a7
      subst e_a7
      replace hf := caE hf
      obtain ⟨v9, h8, e_h8, hf⟩ := hf
      refine nd_v_tags [vi x2] (tv_tags l w hfl F d k_a7 e_h8) rfl dX12_rank_19 q546 k_a7 (by omega) (by omega) (Nat.le_of_ble_eq_true rfl) ?_
      replace hf := caE hf
      obtain ⟨v11, h10, e_h10, hf⟩ := hf
      refine nd_Si [vi x2] (tX12_least l w hfl F d e_h10) rfl dX12_rank_22 mw_X12_least (Or.inl q893) q894 (by omega) (by omega) (Nat.le_of_ble_eq_true rfl) ?_
      refine nd_aload_n (j := 0) dX12_rank_25 rfl rfl ?_
      refine nd_getP (k := 0) dX12_rank_26 k_this rfl (Nat.le_of_ble_eq_true rfl) (nd_flS q480 q481) rfl (fun ok12 => ?_)
      replace hf := nnE hf
      obtain ⟨a13, e_a13, hf⟩ := hf
      refine nd_topr e_a13.symm ?_
      have k_a13 : nd_Kd a13 = 24 := nd_c1 (ok12 a13 e_a13)
      refine nd_iload_n (j := 1) dX12_rank_29 rfl rfl ?_
      replace hf := ckE hf
      obtain ⟨c14, hf⟩ := hf
      refine nd_aald (t := 4) (C := "NotationDesk$Type") dX12_rank_30 k_a13 (by decide) (fun _ => rfl) c14 (fun ok15 => ?_)
      replace hf := bnE hf
      obtain ⟨o16, e_o16, hf⟩ := hf
      refine nd_topr e_o16 ?_
      have ok_o16 : ∀ b, o16 = some b → [6, 7, 8, 9, 11, 12].contains (nd_Kd b) = true := fun b q => ok15 b (e_o16 ▸ q)
      replace hf := nnE hf
      obtain ⟨a17, e_a17, hf⟩ := hf
      have k_a17 : [6, 7, 8, 9, 11, 12].contains (nd_Kd a17) = true := ok_o16 a17 e_a17
      subst e_a17
      replace hf := caE hf
      obtain ⟨v19, h18, e_h18, hf⟩ := hf
      refine nd_v_tags [vi v11, vi x2] (tv_tags l w hfl F d k_a17 e_h18) rfl dX12_rank_31 q546 k_a17 (by omega) (by omega) (Nat.le_of_ble_eq_true rfl) ?_
      replace hf := caE hf
      obtain ⟨v21, h20, e_h20, hf⟩ := hf
      refine nd_Si [vi v11, vi x2] (tX12_least l w hfl F d e_h20) rfl dX12_rank_34 mw_X12_least (Or.inl q893) q894 (by omega) (by omega) (Nat.le_of_ble_eq_true rfl) ?_
      refine nd_icmp_ge (tgt := 44) dX12_rank_37 (by decide) (fun c22 => ?_) (fun c22 => ?_)
      · replace hf := ifp c22 hf
        refine nd_iconst (v := 0) dX12_rank_44 (by decide) ?_
        exact nd_loc [0, 1, 3] rfl (tX12_rank_45 l w hfl F d r (fX12_rank_4 F d n) ih _ _ _ _ _ k_this _ hf)
      · replace hf := ifn c22 hf
        refine nd_iconst (v := 1) dX12_rank_40 (by decide) ?_
        refine nd_goto (tgt := 45) dX12_rank_41 (by decide) ?_
        exact nd_loc [0, 1, 3] rfl (tX12_rank_45 l w hfl F d r (fX12_rank_4 F d n) ih _ _ _ _ _ k_this _ hf)
set_option maxHeartbeats 4000000 in
theorem tX12_rank (l : Launch) (w : Wd) (hfl : l.stackTraces = false) (F d : Nat) {this : Nat} {p0 : Int32} (k_this : nd_Kd this = 8) {h : Hp} {r : Int32 × Hp} (hf : fX12_rank F d this p0 h = some r) : nd_C l w yX12_rank cX12_rank 4 (some .int) (2 + 8 * d) (52 + 400 * d) [vr (some this), vi p0] h (.inl (some (vi r.1)), r.2) := by
  refine nd_start (as := [vr (some this), vi p0]) hfl (by decide) (Nat.le_of_ble_eq_true rfl) ?_
  unfold fX12_rank at hf
  refine nd_eqL (L' := [(0, vr (some this)), (1, vi p0)]) rfl ?_
  refine nd_iconst (v := 0) dX12_rank_0 (by decide) ?_
  refine nd_istore_n [(2, vi 0), (0, vr (some this)), (1, vi p0)] dX12_rank_1 rfl (Nat.le_of_ble_eq_true rfl) rfl ?_
  refine nd_iconst (v := 0) dX12_rank_2 (by decide) ?_
  refine nd_istore_n [(3, vi 0), (2, vi 0), (0, vr (some this)), (1, vi p0)] dX12_rank_3 rfl (Nat.le_of_ble_eq_true rfl) rfl ?_
  exact nd_loc [2, 3, 1, 0] rfl (tX12_rank_4 l w hfl F d r F _ _ _ _ k_this _ hf)
def fX5_size (F d : Nat) (this : Nat) (h : Hp) : Option (Int32 × Hp) :=
  some ((((gI h 501 this) + 7) / 8), h)
set_option maxHeartbeats 4000000 in
theorem tX5_size (l : Launch) (w : Wd) (hfl : l.stackTraces = false) (F d : Nat) {this : Nat} (k_this : nd_Kd this = 4) {h : Hp} {r : Int32 × Hp} (hf : fX5_size F d this h = some r) : nd_C l w yX5_size cX5_size 1 (some .int) 0 0 [vr (some this)] h (.inl (some (vi r.1)), r.2) := by
  refine nd_start (as := [vr (some this)]) hfl (by decide) (Nat.le_of_ble_eq_true rfl) ?_
  unfold fX5_size at hf
  refine nd_eqL (L' := [(0, vr (some this))]) rfl ?_
  refine nd_aload_n (j := 0) dX5_size_0 rfl rfl ?_
  refine nd_getI (k := 1) dX5_size_1 k_this rfl (Nat.le_of_ble_eq_true rfl) (nd_flO q272) rfl ?_
  refine nd_bipush (v := 7) dX5_size_4 (by decide) ?_
  refine nd_iadd dX5_size_6 ?_
  refine nd_bipush (v := 8) dX5_size_7 (by decide) ?_
  refine nd_idiv dX5_size_9 (by decide) ?_
  cases hf
  exact nd_iret (v := (((gI h 501 this) + 7) / 8)) dX5_size_10
def fX5_align (F d : Nat) (this : Nat) (h : Hp) : Option (Hp) :=
  ca (fX5_size F d this h) fun v2 h1 => (
  bn (sI h1 501 this (8 * v2)) fun h3 => (
  some h3))
set_option maxHeartbeats 4000000 in
theorem tX5_align (l : Launch) (w : Wd) (hfl : l.stackTraces = false) (F d : Nat) {this : Nat} (k_this : nd_Kd this = 4) {h : Hp} {r : Hp} (hf : fX5_align F d this h = some r) : nd_C l w yX5_align cX5_align 1 none 1 20 [vr (some this)] h (.inl none, r) := by
  refine nd_start (as := [vr (some this)]) hfl (by decide) (Nat.le_of_ble_eq_true rfl) ?_
  unfold fX5_align at hf
  refine nd_eqL (L' := [(0, vr (some this))]) rfl ?_
  refine nd_aload_n (j := 0) dX5_align_0 rfl rfl ?_
  refine nd_bipush (v := 8) dX5_align_1 (by decide) ?_
  refine nd_aload_n (j := 0) dX5_align_3 rfl rfl ?_
  replace hf := caE hf
  obtain ⟨v2, h1, e_h1, hf⟩ := hf
  refine nd_Vi [vi 8, vr (some this)] (tX5_size l w hfl F d k_this e_h1) rfl dX5_align_4 mw_X5_size (Or.inl q1234) k_this rfl q1235 q1236 (by omega) (by omega) (Nat.le_of_ble_eq_true rfl) ?_
  refine nd_imul dX5_align_7 ?_
  refine nd_putN (k := 1) dX5_align_8 k_this rfl (Nat.le_of_ble_eq_true rfl) (nd_flO q272) rfl rfl rfl ?_
  replace hf := bnE hf
  obtain ⟨h3, e_h3, hf⟩ := hf
  refine nd_hp e_h3 ?_
  cases hf
  exact nd_vret dX5_align_11
def fX5_put_31 (F d : Nat) (k_4 : Nat → Int32 → Int32 → Hp → Option (Hp)) (this : Nat) (x1 : Int32) (x3 : Int32) (h : Hp) : Option (Hp) :=
  nn (gP h 500 this) fun a2 => (
  bn ((gI h 501 this) / 8) fun v3 => (
  ck (inb v3 (nd_Ln a2)) (
  bn (gI h 501 this) fun v5 => (
  ck (inb v3 (nd_Ln a2)) (
  bn (sA h a2 (Int32.toNatClampNeg v3) ((gA h a2 (Int32.toNatClampNeg v3)) ||| (((x1 >>> (x3 &&& 31)) &&& 1) <<< ((7 - (v5 - v5 / 8 * 8)) &&& 31)))) fun h7 => (
  bn (sI h7 501 this ((gI h7 501 this) + 1)) fun h8 => (
  bn (x3 + (-1)) fun v9 => (
  k_4 this x1 v9 h8))))))))
def fX5_put_4 (F d : Nat) : Nat → Nat → Int32 → Int32 → Hp → Option (Hp)
  | 0, _, _, _, _ => none
  | n + 1, this, x1, x3, h =>
    if x3 < 0 then
    (some h)
    else
    (bn (gI h 501 this) fun v2 => (
    if (v2 - v2 / 8 * 8) = 0 then
    (nn (gP h 500 this) fun a5 => (
    ck (inb ((gI h 501 this) / 8) (nd_Ln a5)) (
    bn (sA h a5 (Int32.toNatClampNeg ((gI h 501 this) / 8)) 0) fun h7 => (
    fX5_put_31 F d (fX5_put_4 F d n) this x1 x3 h7))))
    else
    (fX5_put_31 F d (fX5_put_4 F d n) this x1 x3 h)))
def fX5_put (F d : Nat) (this : Nat) (p0 : Int32) (p1 : Int32) (h : Hp) : Option (Hp) :=
  bn (p1 - 1) fun v1 => (
  fX5_put_4 F d F this p0 v1 h)
set_option maxHeartbeats 4000000 in
theorem tX5_put_31 (l : Launch) (w : Wd) (hfl : l.stackTraces = false) (F d : Nat) (r : Hp) (k_4 : Nat → Int32 → Int32 → Hp → Option (Hp)) (hk_4 : ∀ (this : Nat) (x1 : Int32) (x3 : Int32) (k_this : nd_Kd this = 4) (h : Hp), k_4 this x1 x3 h = some r → nd_V l w yX5_put cX5_put 4 none 0 0 (.inl none, r) h 4 [(0, vr (some this)), (1, vi x1), (3, vi x3)] []) (this : Nat) (x1 : Int32) (x3 : Int32) (k_this : nd_Kd this = 4) (h : Hp) (hf : fX5_put_31 F d k_4 this x1 x3 h = some r) : nd_V l w yX5_put cX5_put 4 none 0 0 (.inl none, r) h 31 [(0, vr (some this)), (1, vi x1), (3, vi x3)] [] := by
  unfold fX5_put_31 at hf
  refine nd_aload_n (j := 0) dX5_put_31 rfl rfl ?_
  refine nd_getP (k := 0) dX5_put_32 k_this rfl (Nat.le_of_ble_eq_true rfl) (nd_flO q270) rfl (fun ok1 => ?_)
  replace hf := nnE hf
  obtain ⟨a2, e_a2, hf⟩ := hf
  refine nd_topr e_a2.symm ?_
  have k_a2 : nd_Kd a2 = 20 := nd_c1 (ok1 a2 e_a2)
  refine nd_aload_n (j := 0) dX5_put_35 rfl rfl ?_
  refine nd_getI (k := 1) dX5_put_36 k_this rfl (Nat.le_of_ble_eq_true rfl) (nd_flO q272) rfl ?_
  refine nd_bipush (v := 8) dX5_put_39 (by decide) ?_
  refine nd_idiv dX5_put_41 (by decide) ?_
  replace hf := bnE hf
  obtain ⟨v3, e_v3, hf⟩ := hf
  refine nd_top e_v3 ?_
  refine nd_dup2 dX5_put_42 rfl rfl ?_
  replace hf := ckE hf
  obtain ⟨c4, hf⟩ := hf
  refine nd_iald dX5_put_43 k_a2 c4 ?_
  refine nd_iload_n (j := 1) dX5_put_44 rfl rfl ?_
  refine nd_iload_n (j := 2) dX5_put_45 rfl rfl ?_
  refine nd_ishr dX5_put_46 ?_
  refine nd_iconst (v := 1) dX5_put_47 (by decide) ?_
  refine nd_iand dX5_put_48 ?_
  refine nd_bipush (v := 7) dX5_put_49 (by decide) ?_
  refine nd_aload_n (j := 0) dX5_put_51 rfl rfl ?_
  refine nd_getI (k := 1) dX5_put_52 k_this rfl (Nat.le_of_ble_eq_true rfl) (nd_flO q272) rfl ?_
  refine nd_bipush (v := 8) dX5_put_55 (by decide) ?_
  replace hf := bnE hf
  obtain ⟨v5, e_v5, hf⟩ := hf
  refine nd_top2 e_v5 ?_
  refine nd_irem dX5_put_57 (by decide) ?_
  refine nd_isub dX5_put_58 ?_
  refine nd_ishl dX5_put_59 ?_
  refine nd_ior dX5_put_60 ?_
  replace hf := ckE hf
  obtain ⟨c6, hf⟩ := hf
  refine nd_iast dX5_put_61 k_a2 c6 ?_
  replace hf := bnE hf
  obtain ⟨h7, e_h7, hf⟩ := hf
  refine nd_hp e_h7 ?_
  refine nd_aload_n (j := 0) dX5_put_62 rfl rfl ?_
  refine nd_dup dX5_put_63 rfl ?_
  refine nd_getI (k := 1) dX5_put_64 k_this rfl (Nat.le_of_ble_eq_true rfl) (nd_flO q272) rfl ?_
  refine nd_iconst (v := 1) dX5_put_67 (by decide) ?_
  refine nd_iadd dX5_put_68 ?_
  refine nd_putN (k := 1) dX5_put_69 k_this rfl (Nat.le_of_ble_eq_true rfl) (nd_flO q272) rfl rfl rfl ?_
  replace hf := bnE hf
  obtain ⟨h8, e_h8, hf⟩ := hf
  refine nd_hp e_h8 ?_
  replace hf := bnE hf
  obtain ⟨v9, e_v9, hf⟩ := hf
  refine nd_iinc (v := v9) (j := 2) [(3, vi v9), (0, vr (some this)), (1, vi x1)] dX5_put_72 rfl (by rw [e_v9]; rfl) (Nat.le_of_ble_eq_true rfl) rfl ?_
  refine nd_goto (tgt := 4) dX5_put_75 (by decide) ?_
  exact nd_loc [1, 2, 0] rfl (hk_4 _ _ _ k_this _ hf)
set_option maxHeartbeats 4000000 in
theorem tX5_put_4 (l : Launch) (w : Wd) (hfl : l.stackTraces = false) (F d : Nat) (r : Hp) : ∀ (n : Nat) (this : Nat) (x1 : Int32) (x3 : Int32) (k_this : nd_Kd this = 4) (h : Hp), fX5_put_4 F d n this x1 x3 h = some r → nd_V l w yX5_put cX5_put 4 none 0 0 (.inl none, r) h 4 [(0, vr (some this)), (1, vi x1), (3, vi x3)] [] := by
  intro n
  induction n with
  | zero => intro _ _ _ _ _ hf; cases hf
  | succ n ih =>
    intro this x1 x3 k_this h hf
    unfold fX5_put_4 at hf
    refine nd_iload_n (j := 2) dX5_put_4 rfl rfl ?_
    refine nd_if_lt (tgt := 78) dX5_put_5 (by decide) (fun c1 => ?_) (fun c1 => ?_)
    · replace hf := ifp c1 hf
      cases hf
      exact nd_vret dX5_put_78
    · replace hf := ifn c1 hf
      refine nd_aload_n (j := 0) dX5_put_8 rfl rfl ?_
      refine nd_getI (k := 1) dX5_put_9 k_this rfl (Nat.le_of_ble_eq_true rfl) (nd_flO q272) rfl ?_
      refine nd_bipush (v := 8) dX5_put_12 (by decide) ?_
      replace hf := bnE hf
      obtain ⟨v2, e_v2, hf⟩ := hf
      refine nd_top2 e_v2 ?_
      refine nd_irem dX5_put_14 (by decide) ?_
      refine nd_if_ne (tgt := 31) dX5_put_15 (by decide) (fun c3 => ?_) (fun c3 => ?_)
      · replace hf := ifn c3 hf
        exact nd_loc [0, 1, 2] rfl (tX5_put_31 l w hfl F d r (fX5_put_4 F d n) ih _ _ _ k_this _ hf)
      · replace hf := ifp c3 hf
        refine nd_aload_n (j := 0) dX5_put_18 rfl rfl ?_
        refine nd_getP (k := 0) dX5_put_19 k_this rfl (Nat.le_of_ble_eq_true rfl) (nd_flO q270) rfl (fun ok4 => ?_)
        replace hf := nnE hf
        obtain ⟨a5, e_a5, hf⟩ := hf
        refine nd_topr e_a5.symm ?_
        have k_a5 : nd_Kd a5 = 20 := nd_c1 (ok4 a5 e_a5)
        refine nd_aload_n (j := 0) dX5_put_22 rfl rfl ?_
        refine nd_getI (k := 1) dX5_put_23 k_this rfl (Nat.le_of_ble_eq_true rfl) (nd_flO q272) rfl ?_
        refine nd_bipush (v := 8) dX5_put_26 (by decide) ?_
        refine nd_idiv dX5_put_28 (by decide) ?_
        refine nd_iconst (v := 0) dX5_put_29 (by decide) ?_
        replace hf := ckE hf
        obtain ⟨c6, hf⟩ := hf
        refine nd_iast dX5_put_30 k_a5 c6 ?_
        replace hf := bnE hf
        obtain ⟨h7, e_h7, hf⟩ := hf
        refine nd_hp e_h7 ?_
        exact nd_loc [0, 1, 2] rfl (tX5_put_31 l w hfl F d r (fX5_put_4 F d n) ih _ _ _ k_this _ hf)
set_option maxHeartbeats 4000000 in
theorem tX5_put (l : Launch) (w : Wd) (hfl : l.stackTraces = false) (F d : Nat) {this : Nat} {p0 : Int32} {p1 : Int32} (k_this : nd_Kd this = 4) {h : Hp} {r : Hp} (hf : fX5_put F d this p0 p1 h = some r) : nd_C l w yX5_put cX5_put 4 none 0 0 [vr (some this), vi p0, vi p1] h (.inl none, r) := by
  refine nd_start (as := [vr (some this), vi p0, vi p1]) hfl (by decide) (Nat.le_of_ble_eq_true rfl) ?_
  unfold fX5_put at hf
  refine nd_eqL (L' := [(0, vr (some this)), (1, vi p0), (2, vi p1)]) rfl ?_
  refine nd_iload_n (j := 2) dX5_put_0 rfl rfl ?_
  refine nd_iconst (v := 1) dX5_put_1 (by decide) ?_
  refine nd_isub dX5_put_2 ?_
  replace hf := bnE hf
  obtain ⟨v1, e_v1, hf⟩ := hf
  refine nd_top e_v1 ?_
  refine nd_istore_n [(3, vi v1), (0, vr (some this)), (1, vi p0), (2, vi p1)] dX5_put_3 rfl (Nat.le_of_ble_eq_true rfl) rfl ?_
  exact nd_loc [1, 2, 0] rfl (tX5_put_4 l w hfl F d r F _ _ _ k_this _ hf)
def fX1_width_2 (F d : Nat) : Nat → Int32 → Int32 → Hp → Option (Int32 × Hp)
  | 0, _, _, _ => none
  | n + 1, x0, x1, h =>
    if (x0 >>> (x1 &&& 31)) = 0 then
    (some (x1, h))
    else
    (bn (x1 + 1) fun v2 => (
    fX1_width_2 F d n x0 v2 h))
def fX1_width (F d : Nat) (p0 : Int32) (h : Hp) : Option (Int32 × Hp) :=
  fX1_width_2 F d F p0 0 h
set_option maxHeartbeats 4000000 in
theorem tX1_width_2 (l : Launch) (w : Wd) (hfl : l.stackTraces = false) (F d : Nat) (r : Int32 × Hp) : ∀ (n : Nat) (x0 : Int32) (x1 : Int32)  (h : Hp), fX1_width_2 F d n x0 x1 h = some r → nd_V l w yX1_width cX1_width 2 (some .int) 0 0 (.inl (some (vi r.1)), r.2) h 2 [(0, vi x0), (1, vi x1)] [] := by
  intro n
  induction n with
  | zero => intro _ _ _ hf; cases hf
  | succ n ih =>
    intro x0 x1 h hf
    unfold fX1_width_2 at hf
    refine nd_iload_n (j := 0) dX1_width_2 rfl rfl ?_
    refine nd_iload_n (j := 1) dX1_width_3 rfl rfl ?_
    refine nd_ishr dX1_width_4 ?_
    refine nd_if_eq (tgt := 14) dX1_width_5 (by decide) (fun c1 => ?_) (fun c1 => ?_)
    · replace hf := ifp c1 hf
      refine nd_iload_n (j := 1) dX1_width_14 rfl rfl ?_
      cases hf
      exact nd_iret (v := x1) dX1_width_15
    · replace hf := ifn c1 hf
      replace hf := bnE hf
      obtain ⟨v2, e_v2, hf⟩ := hf
      refine nd_iinc (v := v2) (j := 1) [(1, vi v2), (0, vi x0)] dX1_width_8 rfl (by rw [e_v2]; rfl) (Nat.le_of_ble_eq_true rfl) rfl ?_
      refine nd_goto (tgt := 2) dX1_width_11 (by decide) ?_
      exact nd_loc [1, 0] rfl (ih _ _ _ hf)
set_option maxHeartbeats 4000000 in
theorem tX1_width (l : Launch) (w : Wd) (hfl : l.stackTraces = false) (F d : Nat) {p0 : Int32}  {h : Hp} {r : Int32 × Hp} (hf : fX1_width F d p0 h = some r) : nd_C l w yX1_width cX1_width 2 (some .int) 0 0 [vi p0] h (.inl (some (vi r.1)), r.2) := by
  refine nd_start (as := [vi p0]) hfl (by decide) (Nat.le_of_ble_eq_true rfl) ?_
  unfold fX1_width at hf
  refine nd_eqL (L' := [(0, vi p0)]) rfl ?_
  refine nd_iconst (v := 0) dX1_width_0 (by decide) ?_
  refine nd_istore_n [(1, vi 0), (0, vi p0)] dX1_width_1 rfl (Nat.le_of_ble_eq_true rfl) rfl ?_
  exact nd_loc [1, 0] rfl (tX1_width_2 l w hfl F d r F _ _ _ hf)
def fX5_putNumber_38 (F d : Nat) (s0 : Nat) (s1 : Int32) (s2 : Int32) (h : Hp) : Option (Hp) :=
  cv (fX5_put F d s0 s1 s2 h) fun h1 => (
  some h1)
def fX5_putNumber (F d : Nat) (this : Nat) (p0 : Int32) (p1 : Int32) (p2 : Int32) (h : Hp) : Option (Hp) :=
  bn ((p2 - p1) + 1) fun v1 => (
  if v1 ≤ 255 then
  (ca (fX1_width F d (v1 - 1) h) fun v4 h3 => (
  cv (fX5_put F d this (p0 - p1) v4 h3) fun h5 => (
  some h5)))
  else
  (cv (fX5_align F d this h) fun h7 => (
  if v1 = 256 then
  (fX5_putNumber_38 F d this (p0 - p1) 8 h7)
  else
  (fX5_putNumber_38 F d this (p0 - p1) 16 h7))))
set_option maxHeartbeats 4000000 in
theorem tX5_putNumber_38 (l : Launch) (w : Wd) (hfl : l.stackTraces = false) (F d : Nat) (r : Hp) (s0 : Nat) (s1 : Int32) (s2 : Int32) (k_s0 : nd_Kd s0 = 4) (h : Hp) (hf : fX5_putNumber_38 F d s0 s1 s2 h = some r) : nd_V l w yX5_putNumber cX5_putNumber 5 none 2 40 (.inl none, r) h 38 [] [vi s2, vi s1, vr (some s0)] := by
  unfold fX5_putNumber_38 at hf
  replace hf := cvE hf
  obtain ⟨h1, e_h1, hf⟩ := hf
  refine nd_Vv [] (tX5_put l w hfl F d k_s0 e_h1) rfl dX5_putNumber_38 mw_X5_put (Or.inl q1139) k_s0 rfl q1140 q1141 (by omega) (by omega) (Nat.le_of_ble_eq_true rfl) ?_
  refine nd_goto (tgt := 58) dX5_putNumber_41 (by decide) ?_
  cases hf
  exact nd_vret dX5_putNumber_58
set_option maxHeartbeats 4000000 in
theorem tX5_putNumber (l : Launch) (w : Wd) (hfl : l.stackTraces = false) (F d : Nat) {this : Nat} {p0 : Int32} {p1 : Int32} {p2 : Int32} (k_this : nd_Kd this = 4) {h : Hp} {r : Hp} (hf : fX5_putNumber F d this p0 p1 p2 h = some r) : nd_C l w yX5_putNumber cX5_putNumber 5 none 2 40 [vr (some this), vi p0, vi p1, vi p2] h (.inl none, r) := by
  refine nd_start (as := [vr (some this), vi p0, vi p1, vi p2]) hfl (by decide) (Nat.le_of_ble_eq_true rfl) ?_
  unfold fX5_putNumber at hf
  refine nd_eqL (L' := [(0, vr (some this)), (1, vi p0), (2, vi p1), (3, vi p2)]) rfl ?_
  refine nd_iload_n (j := 3) dX5_putNumber_0 rfl rfl ?_
  refine nd_iload_n (j := 2) dX5_putNumber_1 rfl rfl ?_
  refine nd_isub dX5_putNumber_2 ?_
  refine nd_iconst (v := 1) dX5_putNumber_3 (by decide) ?_
  refine nd_iadd dX5_putNumber_4 ?_
  replace hf := bnE hf
  obtain ⟨v1, e_v1, hf⟩ := hf
  refine nd_top e_v1 ?_
  refine nd_istore [(4, vi v1), (0, vr (some this)), (1, vi p0), (2, vi p1), (3, vi p2)] dX5_putNumber_5 (Nat.le_of_ble_eq_true rfl) rfl ?_
  refine nd_iload (j := 0) dX5_putNumber_7 rfl ?_
  refine nd_sipush (v := 255) dX5_putNumber_9 (by decide) ?_
  refine nd_icmp_le (tgt := 44) dX5_putNumber_12 (by decide) (fun c2 => ?_) (fun c2 => ?_)
  · replace hf := ifp c2 hf
    refine nd_aload_n (j := 1) dX5_putNumber_44 rfl rfl ?_
    refine nd_iload_n (j := 2) dX5_putNumber_45 rfl rfl ?_
    refine nd_iload_n (j := 3) dX5_putNumber_46 rfl rfl ?_
    refine nd_isub dX5_putNumber_47 ?_
    refine nd_iload (j := 0) dX5_putNumber_48 rfl ?_
    refine nd_iconst (v := 1) dX5_putNumber_50 (by decide) ?_
    refine nd_isub dX5_putNumber_51 ?_
    replace hf := caE hf
    obtain ⟨v4, h3, e_h3, hf⟩ := hf
    refine nd_Si [vi (p0 - p1), vr (some this)] (tX1_width l w hfl F d e_h3) rfl dX5_putNumber_52 mw_X1_width (Or.inr ⟨_, q1238⟩) q883 (by omega) (by omega) (Nat.le_of_ble_eq_true rfl) ?_
    replace hf := cvE hf
    obtain ⟨h5, e_h5, hf⟩ := hf
    refine nd_Vv [] (tX5_put l w hfl F d k_this e_h5) rfl dX5_putNumber_55 mw_X5_put (Or.inl q1139) k_this rfl q1140 q1141 (by omega) (by omega) (Nat.le_of_ble_eq_true rfl) ?_
    cases hf
    exact nd_vret dX5_putNumber_58
  · replace hf := ifn c2 hf
    refine nd_aload_n (j := 1) dX5_putNumber_15 rfl rfl ?_
    replace hf := cvE hf
    obtain ⟨h7, e_h7, hf⟩ := hf
    refine nd_Vv [] (tX5_align l w hfl F d k_this e_h7) rfl dX5_putNumber_16 mw_X5_align (Or.inl q1230) k_this rfl q1231 q1232 (by omega) (by omega) (Nat.le_of_ble_eq_true rfl) ?_
    refine nd_aload_n (j := 1) dX5_putNumber_19 rfl rfl ?_
    refine nd_iload_n (j := 2) dX5_putNumber_20 rfl rfl ?_
    refine nd_iload_n (j := 3) dX5_putNumber_21 rfl rfl ?_
    refine nd_isub dX5_putNumber_22 ?_
    refine nd_iload (j := 0) dX5_putNumber_23 rfl ?_
    refine nd_sipush (v := 256) dX5_putNumber_25 (by decide) ?_
    refine nd_icmp_ne (tgt := 36) dX5_putNumber_28 (by decide) (fun c9 => ?_) (fun c9 => ?_)
    · replace hf := ifn c9 hf
      refine nd_bipush (v := 16) dX5_putNumber_36 (by decide) ?_
      exact nd_loc [] rfl (tX5_putNumber_38 l w hfl F d r _ _ _ k_this _ hf)
    · replace hf := ifp c9 hf
      refine nd_bipush (v := 8) dX5_putNumber_31 (by decide) ?_
      refine nd_goto (tgt := 38) dX5_putNumber_33 (by decide) ?_
      exact nd_loc [] rfl (tX5_putNumber_38 l w hfl F d r _ _ _ k_this _ hf)
def fX12_pack (F d : Nat) (R_pack : Nat → Nat → Nat → Hp → Option (Hp)) (this : Nat) (p0 : Nat) (p1 : Nat) (h : Hp) : Option (Hp) :=
  ca (fX12_rank F d this (gI h 1701 p0) h) fun v2 h1 => (
  cv (fX5_putNumber F d p1 v2 0 ((gI h1 1001 this) - 1) h1) fun h3 => (
  nn (gP h3 1000 this) fun a6 => (
  ck (inb (gI h3 1701 p0) (nd_Ln a6)) (
  bn (gR h3 a6 (Int32.toNatClampNeg (gI h3 1701 p0))) fun o9 => (
  bn (gP h3 1706 p0) fun o11 => (
  nn o9 fun a12 => (
  nn o11 fun a13 => (
  cv (R_pack a12 a13 p1 h3) fun h14 => (
  some h14)))))))))
set_option maxHeartbeats 4000000 in
theorem tX12_pack (l : Launch) (w : Wd) (hfl : l.stackTraces = false) (F d : Nat) (R_pack : Nat → Nat → Nat → Hp → Option (Hp)) (hR_pack : ∀ {b : Nat} {p0 : Nat} {p1 : Nat} (k_b : [6, 7, 8, 9, 11, 12].contains (nd_Kd b) = true) (k_p0 : nd_Kd p0 = 13) (k_p1 : nd_Kd p1 = 4) {h : Hp} {r : Hp}, R_pack b p0 p1 h = some r → nc_pack l w b (1 + 8 * d) (30 + 400 * d) [vr (some b), vr (some p0), vr (some p1)] h (.inl none, r)) {this : Nat} {p0 : Nat} {p1 : Nat} (k_this : nd_Kd this = 8) (k_p0 : nd_Kd p0 = 13) (k_p1 : nd_Kd p1 = 4) {h : Hp} {r : Hp} (hf : fX12_pack F d R_pack this p0 p1 h = some r) : nd_C l w yX12_pack cX12_pack 3 none (3 + 8 * d) (75 + 400 * d) [vr (some this), vr (some p0), vr (some p1)] h (.inl none, r) := by
  refine nd_start (as := [vr (some this), vr (some p0), vr (some p1)]) hfl (by decide) (Nat.le_of_ble_eq_true rfl) ?_
  unfold fX12_pack at hf
  refine nd_eqL (L' := [(0, vr (some this)), (1, vr (some p0)), (2, vr (some p1))]) rfl ?_
  refine nd_aload_n (j := 2) dX12_pack_0 rfl rfl ?_
  refine nd_aload_n (j := 0) dX12_pack_1 rfl rfl ?_
  refine nd_aload_n (j := 1) dX12_pack_2 rfl rfl ?_
  refine nd_getI (k := 1) dX12_pack_3 k_p0 rfl (Nat.le_of_ble_eq_true rfl) (nd_flN q912) rfl ?_
  replace hf := caE hf
  obtain ⟨v2, h1, e_h1, hf⟩ := hf
  refine nd_Vi [vr (some p1)] (tX12_rank l w hfl F d k_this e_h1) rfl dX12_pack_6 mw_X12_rank (Or.inl q889) k_this rfl q891 qs20 (by omega) (by omega) (Nat.le_of_ble_eq_true rfl) ?_
  refine nd_iconst (v := 0) dX12_pack_9 (by decide) ?_
  refine nd_aload_n (j := 0) dX12_pack_10 rfl rfl ?_
  refine nd_getI (k := 1) dX12_pack_11 k_this rfl (Nat.le_of_ble_eq_true rfl) (nd_flS q485 q486) rfl ?_
  refine nd_iconst (v := 1) dX12_pack_14 (by decide) ?_
  refine nd_isub dX12_pack_15 ?_
  replace hf := cvE hf
  obtain ⟨h3, e_h3, hf⟩ := hf
  refine nd_Vv [] (tX5_putNumber l w hfl F d k_p1 e_h3) rfl dX12_pack_16 mw_X5_putNumber (Or.inl q1226) k_p1 rfl q1227 q1228 (by omega) (by omega) (Nat.le_of_ble_eq_true rfl) ?_
  refine nd_aload_n (j := 0) dX12_pack_19 rfl rfl ?_
  refine nd_getP (k := 0) dX12_pack_20 k_this rfl (Nat.le_of_ble_eq_true rfl) (nd_flS q480 q481) rfl (fun ok5 => ?_)
  replace hf := nnE hf
  obtain ⟨a6, e_a6, hf⟩ := hf
  refine nd_topr e_a6.symm ?_
  have k_a6 : nd_Kd a6 = 24 := nd_c1 (ok5 a6 e_a6)
  refine nd_aload_n (j := 1) dX12_pack_23 rfl rfl ?_
  refine nd_getI (k := 1) dX12_pack_24 k_p0 rfl (Nat.le_of_ble_eq_true rfl) (nd_flN q912) rfl ?_
  replace hf := ckE hf
  obtain ⟨c7, hf⟩ := hf
  refine nd_aald (t := 4) (C := "NotationDesk$Type") dX12_pack_27 k_a6 (by decide) (fun _ => rfl) c7 (fun ok8 => ?_)
  replace hf := bnE hf
  obtain ⟨o9, e_o9, hf⟩ := hf
  refine nd_topr e_o9 ?_
  have ok_o9 : ∀ b, o9 = some b → [6, 7, 8, 9, 11, 12].contains (nd_Kd b) = true := fun b q => ok8 b (e_o9 ▸ q)
  refine nd_aload_n (j := 1) dX12_pack_28 rfl rfl ?_
  refine nd_getP (k := 6) dX12_pack_29 k_p0 rfl (Nat.le_of_ble_eq_true rfl) (nd_flN q926) rfl (fun ok10 => ?_)
  replace hf := bnE hf
  obtain ⟨o11, e_o11, hf⟩ := hf
  refine nd_topr e_o11 ?_
  have ok_o11 : ∀ b, o11 = some b → [13].contains (nd_Kd b) = true := fun b q => ok10 b (e_o11 ▸ q)
  refine nd_aload_n (j := 2) dX12_pack_32 rfl rfl ?_
  replace hf := nnE hf
  obtain ⟨a12, e_a12, hf⟩ := hf
  have k_a12 : [6, 7, 8, 9, 11, 12].contains (nd_Kd a12) = true := ok_o9 a12 e_a12
  subst e_a12
  replace hf := nnE hf
  obtain ⟨a13, e_a13, hf⟩ := hf
  have k_a13 : nd_Kd a13 = 13 := nd_c1 (ok_o11 a13 e_a13)
  subst e_a13
  replace hf := cvE hf
  obtain ⟨h14, e_h14, hf⟩ := hf
  refine nd_v_pack [] (hR_pack k_a12 k_a13 k_p1 e_h14) rfl dX12_pack_33 q1239 k_a12 (by omega) (by omega) (Nat.le_of_ble_eq_true rfl) ?_
  cases hf
  exact nd_vret dX12_pack_36
def fX17_add_33 (F d : Nat) (this : Nat) (x1 : Nat) (h : Hp) : Option (Hp) :=
  bn (sP h 1707 this (some x1)) fun h1 => (
  some h1)
def fX17_add (F d : Nat) (this : Nat) (p0 : Nat) (p1 : Int32) (h : Hp) : Option (Hp) :=
  bn (sI h 1703 p0 p1) fun h1 => (
  bn (sP h1 1708 p0 none) fun h2 => (
  bn (gP h2 1706 this) fun o4 => (
  oc o4
  (bn (sP h2 1706 this (some p0)) fun h6 => (
  fX17_add_33 F d this p0 h6))
  (fun a5 =>
  bn (gP h2 1707 this) fun o8 => (
  nn o8 fun a9 => (
  bn (sP h2 1708 a9 (some p0)) fun h10 => (
  fX17_add_33 F d this p0 h10)))))))
set_option maxHeartbeats 4000000 in
theorem tX17_add_33 (l : Launch) (w : Wd) (hfl : l.stackTraces = false) (F d : Nat) (r : Hp) (this : Nat) (x1 : Nat) (k_this : nd_Kd this = 13) (k_x1 : nd_Kd x1 = 13) (h : Hp) (hf : fX17_add_33 F d this x1 h = some r) : nd_V l w yX17_add cX17_add 3 none 0 0 (.inl none, r) h 33 [(0, vr (some this)), (1, vr (some x1))] [] := by
  unfold fX17_add_33 at hf
  refine nd_aload_n (j := 0) dX17_add_33 rfl rfl ?_
  refine nd_aload_n (j := 1) dX17_add_34 rfl rfl ?_
  refine nd_putP (k := 7) (f := 1707) dX17_add_35 k_this rfl (Nat.le_of_ble_eq_true rfl) (nd_flO q927) rfl rfl rfl rfl (fun b e => by cases e; rw [k_x1]; rfl) ?_
  replace hf := bnE hf
  obtain ⟨h1, e_h1, hf⟩ := hf
  refine nd_hp e_h1 ?_
  cases hf
  exact nd_vret dX17_add_38
set_option maxHeartbeats 4000000 in
theorem tX17_add (l : Launch) (w : Wd) (hfl : l.stackTraces = false) (F d : Nat) {this : Nat} {p0 : Nat} {p1 : Int32} (k_this : nd_Kd this = 13) (k_p0 : nd_Kd p0 = 13) {h : Hp} {r : Hp} (hf : fX17_add F d this p0 p1 h = some r) : nd_C l w yX17_add cX17_add 3 none 0 0 [vr (some this), vr (some p0), vi p1] h (.inl none, r) := by
  refine nd_start (as := [vr (some this), vr (some p0), vi p1]) hfl (by decide) (Nat.le_of_ble_eq_true rfl) ?_
  unfold fX17_add at hf
  refine nd_eqL (L' := [(0, vr (some this)), (1, vr (some p0)), (2, vi p1)]) rfl ?_
  refine nd_aload_n (j := 1) dX17_add_0 rfl rfl ?_
  refine nd_iload_n (j := 2) dX17_add_1 rfl rfl ?_
  refine nd_putN (k := 3) dX17_add_2 k_p0 rfl (Nat.le_of_ble_eq_true rfl) (nd_flO q917) rfl rfl rfl ?_
  replace hf := bnE hf
  obtain ⟨h1, e_h1, hf⟩ := hf
  refine nd_hp e_h1 ?_
  refine nd_aload_n (j := 1) dX17_add_5 rfl rfl ?_
  refine nd_null dX17_add_6 ?_
  refine nd_putP (k := 8) (f := 1708) dX17_add_7 k_p0 rfl (Nat.le_of_ble_eq_true rfl) (nd_flO q929) rfl rfl rfl rfl (fun b e => by cases e) ?_
  replace hf := bnE hf
  obtain ⟨h2, e_h2, hf⟩ := hf
  refine nd_hp e_h2 ?_
  refine nd_aload_n (j := 0) dX17_add_10 rfl rfl ?_
  refine nd_getP (k := 6) dX17_add_11 k_this rfl (Nat.le_of_ble_eq_true rfl) (nd_flO q923) rfl (fun ok3 => ?_)
  replace hf := bnE hf
  obtain ⟨o4, e_o4, hf⟩ := hf
  refine nd_topr e_o4 ?_
  have ok_o4 : ∀ b, o4 = some b → [13].contains (nd_Kd b) = true := fun b q => ok3 b (e_o4 ▸ q)
  refine nd_ifnonnull (tgt := 25) dX17_add_14 (by decide) (fun e_a5 => ?_) (fun a5 e_a5 => ?_)
  · replace hf := ocN e_a5 hf
    subst e_a5
    refine nd_aload_n (j := 0) dX17_add_17 rfl rfl ?_
    refine nd_aload_n (j := 1) dX17_add_18 rfl rfl ?_
    refine nd_putP (k := 6) (f := 1706) dX17_add_19 k_this rfl (Nat.le_of_ble_eq_true rfl) (nd_flO q923) rfl rfl rfl rfl (fun b e => by cases e; rw [k_p0]; rfl) ?_
    replace hf := bnE hf
    obtain ⟨h6, e_h6, hf⟩ := hf
    refine nd_hp e_h6 ?_
    refine nd_goto (tgt := 33) dX17_add_22 (by decide) ?_
    exact nd_loc [0, 1] rfl (tX17_add_33 l w hfl F d r _ _ k_this k_p0 _ hf)
  · replace hf := ocS e_a5 hf
    have k_a5 : nd_Kd a5 = 13 := nd_c1 (ok_o4 a5 e_a5)
    subst e_a5
    refine nd_aload_n (j := 0) dX17_add_25 rfl rfl ?_
    refine nd_getP (k := 7) dX17_add_26 k_this rfl (Nat.le_of_ble_eq_true rfl) (nd_flO q927) rfl (fun ok7 => ?_)
    replace hf := bnE hf
    obtain ⟨o8, e_o8, hf⟩ := hf
    refine nd_topr e_o8 ?_
    have ok_o8 : ∀ b, o8 = some b → [13].contains (nd_Kd b) = true := fun b q => ok7 b (e_o8 ▸ q)
    refine nd_aload_n (j := 1) dX17_add_29 rfl rfl ?_
    replace hf := nnE hf
    obtain ⟨a9, e_a9, hf⟩ := hf
    have k_a9 : nd_Kd a9 = 13 := nd_c1 (ok_o8 a9 e_a9)
    subst e_a9
    refine nd_putP (k := 8) (f := 1708) dX17_add_30 k_a9 rfl (Nat.le_of_ble_eq_true rfl) (nd_flO q929) rfl rfl rfl rfl (fun b e => by cases e; rw [k_p0]; rfl) ?_
    replace hf := bnE hf
    obtain ⟨h10, e_h10, hf⟩ := hf
    refine nd_hp e_h10 ?_
    exact nd_loc [0, 1] rfl (tX17_add_33 l w hfl F d r _ _ k_this k_p0 _ hf)
def fX12_with (F d : Nat) (p0 : Option Nat) (p1 : Option Nat) (h : Hp) : Option (Option Nat × Hp) :=
  oc p0
  (some (none, h))
  (fun a1 =>
  oc p1
  (some (none, h))
  (fun a2 =>
  cv (fX17_add F d a1 a2 0 h) fun h3 => (
  some ((some a1), h3))))
set_option maxHeartbeats 4000000 in
theorem tX12_with (l : Launch) (w : Wd) (hfl : l.stackTraces = false) (F d : Nat) {p0 : Option Nat} {p1 : Option Nat} (ok_p0 : ∀ b, p0 = some b → [13].contains (nd_Kd b) = true) (ok_p1 : ∀ b, p1 = some b → [13].contains (nd_Kd b) = true) {h : Hp} {r : Option Nat × Hp} (hf : fX12_with F d p0 p1 h = some r) : nd_C l w yX12_with cX12_with 2 (some (.object "NotationDesk$Part")) 1 22 [vr p0, vr p1] h (.inl (some (vr r.1)), r.2) := by
  refine nd_start (as := [vr p0, vr p1]) hfl (by decide) (Nat.le_of_ble_eq_true rfl) ?_
  unfold fX12_with at hf
  refine nd_eqL (L' := [(0, vr p0), (1, vr p1)]) rfl ?_
  refine nd_aload_n (j := 0) dX12_with_0 rfl rfl ?_
  refine nd_ifnull (tgt := 8) dX12_with_1 (by decide) (fun e_a1 => ?_) (fun a1 e_a1 => ?_)
  · replace hf := ocN e_a1 hf
    subst e_a1
    refine nd_null dX12_with_8 ?_
    cases hf
    exact nd_aret (fun b e => by cases e) dX12_with_9
  · replace hf := ocS e_a1 hf
    have k_a1 : nd_Kd a1 = 13 := nd_c1 (ok_p0 a1 e_a1)
    subst e_a1
    refine nd_aload_n (j := 1) dX12_with_4 rfl rfl ?_
    refine nd_ifnonnull (tgt := 10) dX12_with_5 (by decide) (fun e_a2 => ?_) (fun a2 e_a2 => ?_)
    · replace hf := ocN e_a2 hf
      subst e_a2
      refine nd_null dX12_with_8 ?_
      cases hf
      exact nd_aret (fun b e => by cases e) dX12_with_9
    · replace hf := ocS e_a2 hf
      have k_a2 : nd_Kd a2 = 13 := nd_c1 (ok_p1 a2 e_a2)
      subst e_a2
      refine nd_aload_n (j := 0) dX12_with_10 rfl rfl ?_
      refine nd_aload_n (j := 1) dX12_with_11 rfl rfl ?_
      refine nd_iconst (v := 0) dX12_with_12 (by decide) ?_
      replace hf := cvE hf
      obtain ⟨h3, e_h3, hf⟩ := hf
      refine nd_Vv [] (tX17_add l w hfl F d k_a1 k_a2 e_h3) rfl dX12_with_13 mw_X17_add (Or.inl q1034) k_a1 rfl q1010 q1011 (by omega) (by omega) (Nat.le_of_ble_eq_true rfl) ?_
      refine nd_aload_n (j := 0) dX12_with_16 rfl rfl ?_
      cases hf
      exact nd_aret (fun b e => by cases e; exact okT13' (by rw [k_a1]; rfl)) dX12_with_17
def fX4_tag_57 (F d : Nat) (x1 : Int32) (x2 : Int32) (h : Hp) : Option (Int32 × Hp) :=
  if x2 = 2 then
  (if 10 ≤ x1 then
  (some ((-1), h))
  else
  (some ((20 + x1), h)))
  else
  (some ((-1), h))
def fX4_tag (F d : Nat) (this : Nat) (h : Hp) : Option (Int32 × Hp) :=
  if (gI h 401 this) < (gI h 402 this) then
  (nn (gP h 400 this) fun a3 => (
  ck (inb (gI h 401 this) (nd_Ln a3)) (
  bn ((gA h a3 (Int32.toNatClampNeg (gI h 401 this))) &&& 31) fun v5 => (
  nn (gP h 400 this) fun a7 => (
  ck (inb (gI h 401 this) (nd_Ln a7)) (
  bn ((gA h a7 (Int32.toNatClampNeg (gI h 401 this))) >>> (6 &&& 31)) fun v9 => (
  if v9 = 0 then
  (if v5 ≤ 0 then
  (fX4_tag_57 F d v5 v9 h)
  else
  (if 20 ≤ v5 then
  (fX4_tag_57 F d v5 v9 h)
  else
  (some (v5, h))))
  else
  (fX4_tag_57 F d v5 v9 h))))))))
  else
  (some ((-1), h))
set_option maxHeartbeats 4000000 in
theorem tX4_tag_57 (l : Launch) (w : Wd) (hfl : l.stackTraces = false) (F d : Nat) (r : Int32 × Hp) (x1 : Int32) (x2 : Int32)  (h : Hp) (hf : fX4_tag_57 F d x1 x2 h = some r) : nd_V l w yX4_tag cX4_tag 3 (some .int) 0 0 (.inl (some (vi r.1)), r.2) h 57 [(1, vi x1), (2, vi x2)] [] := by
  unfold fX4_tag_57 at hf
  refine nd_iload_n (j := 1) dX4_tag_57 rfl rfl ?_
  refine nd_iconst (v := 2) dX4_tag_58 (by decide) ?_
  refine nd_icmp_ne (tgt := 75) dX4_tag_59 (by decide) (fun c1 => ?_) (fun c1 => ?_)
  · replace hf := ifn c1 hf
    refine nd_iconst (v := (-1)) dX4_tag_75 (by decide) ?_
    cases hf
    exact nd_iret (v := (-1)) dX4_tag_76
  · replace hf := ifp c1 hf
    refine nd_iload_n (j := 0) dX4_tag_62 rfl rfl ?_
    refine nd_bipush (v := 10) dX4_tag_63 (by decide) ?_
    refine nd_icmp_ge (tgt := 75) dX4_tag_65 (by decide) (fun c2 => ?_) (fun c2 => ?_)
    · replace hf := ifp c2 hf
      refine nd_iconst (v := (-1)) dX4_tag_75 (by decide) ?_
      cases hf
      exact nd_iret (v := (-1)) dX4_tag_76
    · replace hf := ifn c2 hf
      refine nd_bipush (v := 20) dX4_tag_68 (by decide) ?_
      refine nd_iload_n (j := 0) dX4_tag_70 rfl rfl ?_
      refine nd_iadd dX4_tag_71 ?_
      refine nd_goto (tgt := 76) dX4_tag_72 (by decide) ?_
      cases hf
      exact nd_iret (v := (20 + x1)) dX4_tag_76
set_option maxHeartbeats 4000000 in
theorem tX4_tag (l : Launch) (w : Wd) (hfl : l.stackTraces = false) (F d : Nat) {this : Nat} (k_this : nd_Kd this = 3) {h : Hp} {r : Int32 × Hp} (hf : fX4_tag F d this h = some r) : nd_C l w yX4_tag cX4_tag 3 (some .int) 0 0 [vr (some this)] h (.inl (some (vi r.1)), r.2) := by
  refine nd_start (as := [vr (some this)]) hfl (by decide) (Nat.le_of_ble_eq_true rfl) ?_
  unfold fX4_tag at hf
  refine nd_eqL (L' := [(0, vr (some this))]) rfl ?_
  refine nd_aload_n (j := 0) dX4_tag_0 rfl rfl ?_
  refine nd_getI (k := 1) dX4_tag_1 k_this rfl (Nat.le_of_ble_eq_true rfl) (nd_flO q232) rfl ?_
  refine nd_aload_n (j := 0) dX4_tag_4 rfl rfl ?_
  refine nd_getI (k := 2) dX4_tag_5 k_this rfl (Nat.le_of_ble_eq_true rfl) (nd_flO q234) rfl ?_
  refine nd_icmp_lt (tgt := 13) dX4_tag_8 (by decide) (fun c1 => ?_) (fun c1 => ?_)
  · replace hf := ifp c1 hf
    refine nd_aload_n (j := 0) dX4_tag_13 rfl rfl ?_
    refine nd_getP (k := 0) dX4_tag_14 k_this rfl (Nat.le_of_ble_eq_true rfl) (nd_flO q231) rfl (fun ok2 => ?_)
    replace hf := nnE hf
    obtain ⟨a3, e_a3, hf⟩ := hf
    refine nd_topr e_a3.symm ?_
    have k_a3 : nd_Kd a3 = 20 := nd_c1 (ok2 a3 e_a3)
    refine nd_aload_n (j := 0) dX4_tag_17 rfl rfl ?_
    refine nd_getI (k := 1) dX4_tag_18 k_this rfl (Nat.le_of_ble_eq_true rfl) (nd_flO q232) rfl ?_
    replace hf := ckE hf
    obtain ⟨c4, hf⟩ := hf
    refine nd_iald dX4_tag_21 k_a3 c4 ?_
    refine nd_bipush (v := 31) dX4_tag_22 (by decide) ?_
    refine nd_iand dX4_tag_24 ?_
    replace hf := bnE hf
    obtain ⟨v5, e_v5, hf⟩ := hf
    refine nd_top e_v5 ?_
    refine nd_istore_n [(1, vi v5), (0, vr (some this))] dX4_tag_25 rfl (Nat.le_of_ble_eq_true rfl) rfl ?_
    refine nd_aload_n (j := 1) dX4_tag_26 rfl rfl ?_
    refine nd_getP (k := 0) dX4_tag_27 k_this rfl (Nat.le_of_ble_eq_true rfl) (nd_flO q231) rfl (fun ok6 => ?_)
    replace hf := nnE hf
    obtain ⟨a7, e_a7, hf⟩ := hf
    refine nd_topr e_a7.symm ?_
    have k_a7 : nd_Kd a7 = 20 := nd_c1 (ok6 a7 e_a7)
    refine nd_aload_n (j := 1) dX4_tag_30 rfl rfl ?_
    refine nd_getI (k := 1) dX4_tag_31 k_this rfl (Nat.le_of_ble_eq_true rfl) (nd_flO q232) rfl ?_
    replace hf := ckE hf
    obtain ⟨c8, hf⟩ := hf
    refine nd_iald dX4_tag_34 k_a7 c8 ?_
    refine nd_bipush (v := 6) dX4_tag_35 (by decide) ?_
    refine nd_ishr dX4_tag_37 ?_
    replace hf := bnE hf
    obtain ⟨v9, e_v9, hf⟩ := hf
    refine nd_top e_v9 ?_
    refine nd_istore_n [(2, vi v9), (1, vi v5), (0, vr (some this))] dX4_tag_38 rfl (Nat.le_of_ble_eq_true rfl) rfl ?_
    refine nd_iload_n (j := 0) dX4_tag_39 rfl rfl ?_
    refine nd_if_ne (tgt := 57) dX4_tag_40 (by decide) (fun c10 => ?_) (fun c10 => ?_)
    · replace hf := ifn c10 hf
      exact nd_loc [1, 0] rfl (tX4_tag_57 l w hfl F d r _ _ _ hf)
    · replace hf := ifp c10 hf
      refine nd_iload_n (j := 1) dX4_tag_43 rfl rfl ?_
      refine nd_if_le (tgt := 57) dX4_tag_44 (by decide) (fun c11 => ?_) (fun c11 => ?_)
      · replace hf := ifp c11 hf
        exact nd_loc [1, 0] rfl (tX4_tag_57 l w hfl F d r _ _ _ hf)
      · replace hf := ifn c11 hf
        refine nd_iload_n (j := 1) dX4_tag_47 rfl rfl ?_
        refine nd_bipush (v := 20) dX4_tag_48 (by decide) ?_
        refine nd_icmp_ge (tgt := 57) dX4_tag_50 (by decide) (fun c12 => ?_) (fun c12 => ?_)
        · replace hf := ifp c12 hf
          exact nd_loc [1, 0] rfl (tX4_tag_57 l w hfl F d r _ _ _ hf)
        · replace hf := ifn c12 hf
          refine nd_iload_n (j := 1) dX4_tag_53 rfl rfl ?_
          refine nd_goto (tgt := 76) dX4_tag_54 (by decide) ?_
          cases hf
          exact nd_iret (v := v5) dX4_tag_76
  · replace hf := ifn c1 hf
    refine nd_iconst (v := (-1)) dX4_tag_11 (by decide) ?_
    cases hf
    exact nd_iret (v := (-1)) dX4_tag_12
def fX17_init (F d : Nat) (this : Nat) (h : Hp) : Option (Hp) :=
  some h
set_option maxHeartbeats 4000000 in
theorem tX17_init (l : Launch) (w : Wd) (hfl : l.stackTraces = false) (F d : Nat) {this : Nat} (k_this : nd_Kd this = 13) {h : Hp} {r : Hp} (hf : fX17_init F d this h = some r) : nd_C l w yX17_init cX17_init 1 none 1 40 [vr (some this)] h (.inl none, r) := by
  refine nd_start (as := [vr (some this)]) hfl (by decide) (Nat.le_of_ble_eq_true rfl) ?_
  unfold fX17_init at hf
  refine nd_eqL (L' := [(0, vr (some this))]) rfl ?_
  refine nd_aload_n (j := 0) dX17_init_0 rfl rfl ?_
  refine nd_obj dX17_init_1 q904 q119 q120 (Nat.le_of_ble_eq_true rfl) (Nat.le_of_ble_eq_true rfl) ?_
  cases hf
  exact nd_vret dX17_init_4
def fX3_make_39 (F d : Nat) (this : Nat) (x1 : Int32) (x2 : Int32) (h : Hp) : Option (Option Nat × Hp) :=
  nn (gP h 300 this) fun a2 => (
  ck (inb (gI h 303 this) (nd_Ln a2)) (
  bn (gR h a2 (Int32.toNatClampNeg (gI h 303 this))) fun o5 => (
  bn (sI h 303 this ((gI h 303 this) + 1)) fun h6 => (
  nn o5 fun a7 => (
  bn (sI h6 1700 a7 x1) fun h8 => (
  bn (sI h8 1701 a7 x2) fun h9 => (
  bn (sI h9 1702 a7 (gI h9 304 this)) fun h10 => (
  bn (sI h10 1703 a7 0) fun h11 => (
  bn (sP h11 1706 a7 none) fun h12 => (
  bn (sP h12 1707 a7 none) fun h13 => (
  bn (sP h13 1708 a7 none) fun h14 => (
  some ((some a7), h14)))))))))))))
def fX3_make (F d : Nat) (this : Nat) (p0 : Int32) (p1 : Int32) (h : Hp) : Option (Option Nat × Hp) :=
  if (gI h 303 this) < 100 then
  (nn (gP h 300 this) fun a3 => (
  ck (inb (gI h 303 this) (nd_Ln a3)) (
  bn (gR h a3 (Int32.toNatClampNeg (gI h 303 this))) fun o6 => (
  oc o6
  (nn (gP h 300 this) fun a9 => (
  bn (this + 10 + (gI h 303 this).toNatClampNeg) fun n12 => (
  ck (fre h n12 13) (
  bn (nw h n12 9) fun h11 => (
  cv (fX17_init F d n12 h11) fun h13 => (
  ck (inb (gI h 303 this) (nd_Ln a9)) (
  bn (sR h13 a9 (Int32.toNatClampNeg (gI h 303 this)) (some n12)) fun h16 => (
  fX3_make_39 F d this p0 p1 h16))))))))
  (fun a7 =>
  fX3_make_39 F d this p0 p1 h)))))
  else
  (some (none, h))
set_option maxHeartbeats 4000000 in
theorem tX3_make_39 (l : Launch) (w : Wd) (hfl : l.stackTraces = false) (F d : Nat) (r : Option Nat × Hp) (this : Nat) (x1 : Int32) (x2 : Int32) (k_this : nd_Kd this = 2) (h : Hp) (hf : fX3_make_39 F d this x1 x2 h = some r) : nd_V l w yX3_make cX3_make 4 (some (.object "NotationDesk$Part")) 2 60 (.inl (some (vr r.1)), r.2) h 39 [(0, vr (some this)), (1, vi x1), (2, vi x2)] [] := by
  unfold fX3_make_39 at hf
  refine nd_aload_n (j := 0) dX3_make_39 rfl rfl ?_
  refine nd_getP (k := 0) dX3_make_40 k_this rfl (Nat.le_of_ble_eq_true rfl) (nd_flO q201) rfl (fun ok1 => ?_)
  replace hf := nnE hf
  obtain ⟨a2, e_a2, hf⟩ := hf
  refine nd_topr e_a2.symm ?_
  have k_a2 : nd_Kd a2 = 31 := nd_c1 (ok1 a2 e_a2)
  refine nd_aload_n (j := 0) dX3_make_43 rfl rfl ?_
  refine nd_getI (k := 3) dX3_make_44 k_this rfl (Nat.le_of_ble_eq_true rfl) (nd_flO q207) rfl ?_
  replace hf := ckE hf
  obtain ⟨c3, hf⟩ := hf
  refine nd_aald (t := 11) (C := "NotationDesk$Part") dX3_make_47 k_a2 (by decide) (fun _ => rfl) c3 (fun ok4 => ?_)
  replace hf := bnE hf
  obtain ⟨o5, e_o5, hf⟩ := hf
  refine nd_topr e_o5 ?_
  have ok_o5 : ∀ b, o5 = some b → [13].contains (nd_Kd b) = true := fun b q => ok4 b (e_o5 ▸ q)
  refine nd_astore_n [(3, vr o5), (0, vr (some this)), (1, vi x1), (2, vi x2)] dX3_make_48 rfl (Nat.le_of_ble_eq_true rfl) rfl ?_
  refine nd_aload_n (j := 1) dX3_make_49 rfl rfl ?_
  refine nd_dup dX3_make_50 rfl ?_
  refine nd_getI (k := 3) dX3_make_51 k_this rfl (Nat.le_of_ble_eq_true rfl) (nd_flO q207) rfl ?_
  refine nd_iconst (v := 1) dX3_make_54 (by decide) ?_
  refine nd_iadd dX3_make_55 ?_
  refine nd_putN (k := 3) dX3_make_56 k_this rfl (Nat.le_of_ble_eq_true rfl) (nd_flO q207) rfl rfl rfl ?_
  replace hf := bnE hf
  obtain ⟨h6, e_h6, hf⟩ := hf
  refine nd_hp e_h6 ?_
  refine nd_aload_n (j := 0) dX3_make_59 rfl rfl ?_
  refine nd_iload_n (j := 2) dX3_make_60 rfl rfl ?_
  replace hf := nnE hf
  obtain ⟨a7, e_a7, hf⟩ := hf
  have k_a7 : nd_Kd a7 = 13 := nd_c1 (ok_o5 a7 e_a7)
  subst e_a7
  refine nd_putN (k := 0) dX3_make_61 k_a7 rfl (Nat.le_of_ble_eq_true rfl) (nd_flN q905) rfl rfl rfl ?_
  replace hf := bnE hf
  obtain ⟨h8, e_h8, hf⟩ := hf
  refine nd_hp e_h8 ?_
  refine nd_aload_n (j := 0) dX3_make_64 rfl rfl ?_
  refine nd_iload_n (j := 3) dX3_make_65 rfl rfl ?_
  refine nd_putN (k := 1) dX3_make_66 k_a7 rfl (Nat.le_of_ble_eq_true rfl) (nd_flN q908) rfl rfl rfl ?_
  replace hf := bnE hf
  obtain ⟨h9, e_h9, hf⟩ := hf
  refine nd_hp e_h9 ?_
  refine nd_aload_n (j := 0) dX3_make_69 rfl rfl ?_
  refine nd_aload_n (j := 1) dX3_make_70 rfl rfl ?_
  refine nd_getI (k := 4) dX3_make_71 k_this rfl (Nat.le_of_ble_eq_true rfl) (nd_flO q209) rfl ?_
  refine nd_putN (k := 2) dX3_make_74 k_a7 rfl (Nat.le_of_ble_eq_true rfl) (nd_flN q914) rfl rfl rfl ?_
  replace hf := bnE hf
  obtain ⟨h10, e_h10, hf⟩ := hf
  refine nd_hp e_h10 ?_
  refine nd_aload_n (j := 0) dX3_make_77 rfl rfl ?_
  refine nd_iconst (v := 0) dX3_make_78 (by decide) ?_
  refine nd_putN (k := 3) dX3_make_79 k_a7 rfl (Nat.le_of_ble_eq_true rfl) (nd_flN q918) rfl rfl rfl ?_
  replace hf := bnE hf
  obtain ⟨h11, e_h11, hf⟩ := hf
  refine nd_hp e_h11 ?_
  refine nd_aload_n (j := 0) dX3_make_82 rfl rfl ?_
  refine nd_null dX3_make_83 ?_
  refine nd_putP (k := 6) (f := 1706) dX3_make_84 k_a7 rfl (Nat.le_of_ble_eq_true rfl) (nd_flN q924) rfl rfl rfl rfl (fun b e => by cases e) ?_
  replace hf := bnE hf
  obtain ⟨h12, e_h12, hf⟩ := hf
  refine nd_hp e_h12 ?_
  refine nd_aload_n (j := 0) dX3_make_87 rfl rfl ?_
  refine nd_null dX3_make_88 ?_
  refine nd_putP (k := 7) (f := 1707) dX3_make_89 k_a7 rfl (Nat.le_of_ble_eq_true rfl) (nd_flN q928) rfl rfl rfl rfl (fun b e => by cases e) ?_
  replace hf := bnE hf
  obtain ⟨h13, e_h13, hf⟩ := hf
  refine nd_hp e_h13 ?_
  refine nd_aload_n (j := 0) dX3_make_92 rfl rfl ?_
  refine nd_null dX3_make_93 ?_
  refine nd_putP (k := 8) (f := 1708) dX3_make_94 k_a7 rfl (Nat.le_of_ble_eq_true rfl) (nd_flN q930) rfl rfl rfl rfl (fun b e => by cases e) ?_
  replace hf := bnE hf
  obtain ⟨h14, e_h14, hf⟩ := hf
  refine nd_hp e_h14 ?_
  refine nd_aload_n (j := 0) dX3_make_97 rfl rfl ?_
  cases hf
  exact nd_aret (fun b e => by cases e; exact okT13' (by rw [k_a7]; rfl)) dX3_make_98
set_option maxHeartbeats 4000000 in
theorem tX3_make (l : Launch) (w : Wd) (hfl : l.stackTraces = false) (F d : Nat) {this : Nat} {p0 : Int32} {p1 : Int32} (k_this : nd_Kd this = 2) {h : Hp} {r : Option Nat × Hp} (hf : fX3_make F d this p0 p1 h = some r) : nd_C l w yX3_make cX3_make 4 (some (.object "NotationDesk$Part")) 2 60 [vr (some this), vi p0, vi p1] h (.inl (some (vr r.1)), r.2) := by
  refine nd_start (as := [vr (some this), vi p0, vi p1]) hfl (by decide) (Nat.le_of_ble_eq_true rfl) ?_
  unfold fX3_make at hf
  refine nd_eqL (L' := [(0, vr (some this)), (1, vi p0), (2, vi p1)]) rfl ?_
  refine nd_aload_n (j := 0) dX3_make_0 rfl rfl ?_
  refine nd_getI (k := 3) dX3_make_1 k_this rfl (Nat.le_of_ble_eq_true rfl) (nd_flO q207) rfl ?_
  refine nd_bipush (v := 100) dX3_make_4 (by decide) ?_
  refine nd_icmp_lt (tgt := 11) dX3_make_6 (by decide) (fun c1 => ?_) (fun c1 => ?_)
  · replace hf := ifp c1 hf
    refine nd_aload_n (j := 0) dX3_make_11 rfl rfl ?_
    refine nd_getP (k := 0) dX3_make_12 k_this rfl (Nat.le_of_ble_eq_true rfl) (nd_flO q201) rfl (fun ok2 => ?_)
    replace hf := nnE hf
    obtain ⟨a3, e_a3, hf⟩ := hf
    refine nd_topr e_a3.symm ?_
    have k_a3 : nd_Kd a3 = 31 := nd_c1 (ok2 a3 e_a3)
    refine nd_aload_n (j := 0) dX3_make_15 rfl rfl ?_
    refine nd_getI (k := 3) dX3_make_16 k_this rfl (Nat.le_of_ble_eq_true rfl) (nd_flO q207) rfl ?_
    replace hf := ckE hf
    obtain ⟨c4, hf⟩ := hf
    refine nd_aald (t := 11) (C := "NotationDesk$Part") dX3_make_19 k_a3 (by decide) (fun _ => rfl) c4 (fun ok5 => ?_)
    replace hf := bnE hf
    obtain ⟨o6, e_o6, hf⟩ := hf
    refine nd_topr e_o6 ?_
    have ok_o6 : ∀ b, o6 = some b → [13].contains (nd_Kd b) = true := fun b q => ok5 b (e_o6 ▸ q)
    refine nd_ifnonnull (tgt := 39) dX3_make_20 (by decide) (fun e_a7 => ?_) (fun a7 e_a7 => ?_)
    · replace hf := ocN e_a7 hf
      subst e_a7
      refine nd_aload_n (j := 0) dX3_make_23 rfl rfl ?_
      refine nd_getP (k := 0) dX3_make_24 k_this rfl (Nat.le_of_ble_eq_true rfl) (nd_flO q201) rfl (fun ok8 => ?_)
      replace hf := nnE hf
      obtain ⟨a9, e_a9, hf⟩ := hf
      refine nd_topr e_a9.symm ?_
      have k_a9 : nd_Kd a9 = 31 := nd_c1 (ok8 a9 e_a9)
      refine nd_aload_n (j := 0) dX3_make_27 rfl rfl ?_
      refine nd_getI (k := 3) dX3_make_28 k_this rfl (Nat.le_of_ble_eq_true rfl) (nd_flO q207) rfl ?_
      replace hf := bnE hf
      obtain ⟨n12, e_n12, hf⟩ := hf
      replace hf := ckE hf
      obtain ⟨c10, hf⟩ := hf
      refine nd_newO (ci := 13) (n := n12) dX3_make_31 rfl q199 q900 q111 c10 ?_
      replace hf := bnE hf
      obtain ⟨h11, e_h11, hf⟩ := hf
      refine nd_hp e_h11 ?_
      have k_n12 : nd_Kd n12 = 13 := (freE c10).2
      refine nd_dup dX3_make_34 rfl ?_
      replace hf := cvE hf
      obtain ⟨h13, e_h13, hf⟩ := hf
      refine nd_Iv [vr (some n12), vi (gI h 303 this), vr (some a9)] (tX17_init l w hfl F d k_n12 e_h13) rfl dX3_make_35 mw_X17_init (Or.inr ⟨_, q901⟩) q902 rfl (by omega) (by omega) (Nat.le_of_ble_eq_true rfl) ?_
      replace hf := ckE hf
      obtain ⟨c15, hf⟩ := hf
      refine nd_aast (t := 11) (C := "NotationDesk$Part") dX3_make_38 k_a9 (by decide) (fun _ => rfl) c15 (fun b e => by cases e; exact nd_asX11 k_n12) ?_
      replace hf := bnE hf
      obtain ⟨h16, e_h16, hf⟩ := hf
      refine nd_hp e_h16 ?_
      exact nd_loc [0, 1, 2] rfl (tX3_make_39 l w hfl F d r _ _ _ k_this _ hf)
    · replace hf := ocS e_a7 hf
      have k_a7 : nd_Kd a7 = 13 := nd_c1 (ok_o6 a7 e_a7)
      subst e_a7
      exact nd_loc [0, 1, 2] rfl (tX3_make_39 l w hfl F d r _ _ _ k_this _ hf)
  · replace hf := ifn c1 hf
    refine nd_null dX3_make_9 ?_
    cases hf
    exact nd_aret (fun b e => by cases e) dX3_make_10
def fX12_read_8 (F d : Nat) (R_read : Nat → Nat → Int32 → Hp → Option (Option Nat × Hp)) : Nat → Nat → Nat → Int32 → Int32 → Hp → Option (Option Nat × Hp)
  | 0, _, _, _, _, _ => none
  | n + 1, this, x1, x3, x4, h =>
    if (gI h 1001 this) ≤ x4 then
    (some (none, h))
    else
    (if x3 = (-1) then
    (some (none, h))
    else
    (nn (gP h 1000 this) fun a4 => (
    ck (inb x4 (nd_Ln a4)) (
    bn (gR h a4 (Int32.toNatClampNeg x4)) fun o7 => (
    nn o7 fun a8 => (
    ca (v_tags F d a8 h) fun v10 h9 => (
    if ((v10 >>> (x3 &&& 31)) &&& 1) = 1 then
    (nn (gP h9 404 x1) fun a14 => (
    ca (fX3_make F d a14 9 x4 h9) fun v16 h15 => (
    nn (gP h15 1000 this) fun a19 => (
    ck (inb x4 (nd_Ln a19)) (
    bn (gR h15 a19 (Int32.toNatClampNeg x4)) fun o22 => (
    nn o22 fun a23 => (
    ca (R_read a23 x1 (-1) h15) fun v25 h24 => (
    ca (fX12_with F d v16 v25 h24) fun v28 h27 => (
    some (v28, h27))))))))))
    else
    (bn (x4 + 1) fun v12 => (
    fX12_read_8 F d R_read n this x1 x3 v12 h9)))))))))
def fX12_read (F d : Nat) (R_read : Nat → Nat → Int32 → Hp → Option (Option Nat × Hp)) (this : Nat) (p0 : Nat) (p1 : Int32) (h : Hp) : Option (Option Nat × Hp) :=
  ca (fX4_tag F d p0 h) fun v2 h1 => (
  fX12_read_8 F d R_read F this p0 v2 0 h1)
set_option maxHeartbeats 4000000 in
theorem tX12_read_8 (l : Launch) (w : Wd) (hfl : l.stackTraces = false) (F d : Nat) (R_read : Nat → Nat → Int32 → Hp → Option (Option Nat × Hp)) (hR_read : ∀ {b : Nat} {p0 : Nat} {p1 : Int32} (k_b : [6, 7, 8, 9, 11, 12].contains (nd_Kd b) = true) (k_p0 : nd_Kd p0 = 3) {h : Hp} {r : Option Nat × Hp}, R_read b p0 p1 h = some r → nc_read l w b (1 + 8 * d) (30 + 400 * d) [vr (some b), vr (some p0), vi p1] h (.inl (some (vr r.1)), r.2)) (r : Option Nat × Hp) : ∀ (n : Nat) (this : Nat) (x1 : Nat) (x3 : Int32) (x4 : Int32) (k_this : nd_Kd this = 8) (k_x1 : nd_Kd x1 = 3) (h : Hp), fX12_read_8 F d R_read n this x1 x3 x4 h = some r → nd_V l w yX12_read cX12_read 5 (some (.object "NotationDesk$Part")) (3 + 8 * d) (83 + 400 * d) (.inl (some (vr r.1)), r.2) h 8 [(0, vr (some this)), (1, vr (some x1)), (3, vi x3), (4, vi x4)] [] := by
  intro n
  induction n with
  | zero => intro _ _ _ _ _ _ _ hf; cases hf
  | succ n ih =>
    intro this x1 x3 x4 k_this k_x1 h hf
    unfold fX12_read_8 at hf
    refine nd_iload (j := 3) dX12_read_8 rfl ?_
    refine nd_aload_n (j := 0) dX12_read_10 rfl rfl ?_
    refine nd_getI (k := 1) dX12_read_11 k_this rfl (Nat.le_of_ble_eq_true rfl) (nd_flS q485 q486) rfl ?_
    refine nd_icmp_ge (tgt := 73) dX12_read_14 (by decide) (fun c1 => ?_) (fun c1 => ?_)
    · replace hf := ifp c1 hf
      refine nd_null dX12_read_73 ?_
      cases hf
      exact nd_aret (fun b e => by cases e) dX12_read_74
    · replace hf := ifn c1 hf
      refine nd_iload_n (j := 2) dX12_read_17 rfl rfl ?_
      refine nd_iconst (v := (-1)) dX12_read_18 (by decide) ?_
      refine nd_icmp_eq (tgt := 73) dX12_read_19 (by decide) (fun c2 => ?_) (fun c2 => ?_)
      · replace hf := ifp c2 hf
        refine nd_null dX12_read_73 ?_
        cases hf
        exact nd_aret (fun b e => by cases e) dX12_read_74
      · replace hf := ifn c2 hf
        refine nd_aload_n (j := 0) dX12_read_22 rfl rfl ?_
        refine nd_getP (k := 0) dX12_read_23 k_this rfl (Nat.le_of_ble_eq_true rfl) (nd_flS q480 q481) rfl (fun ok3 => ?_)
        replace hf := nnE hf
        obtain ⟨a4, e_a4, hf⟩ := hf
        refine nd_topr e_a4.symm ?_
        have k_a4 : nd_Kd a4 = 24 := nd_c1 (ok3 a4 e_a4)
        refine nd_iload (j := 3) dX12_read_26 rfl ?_
        replace hf := ckE hf
        obtain ⟨c5, hf⟩ := hf
        refine nd_aald (t := 4) (C := "NotationDesk$Type") dX12_read_28 k_a4 (by decide) (fun _ => rfl) c5 (fun ok6 => ?_)
        replace hf := bnE hf
        obtain ⟨o7, e_o7, hf⟩ := hf
        refine nd_topr e_o7 ?_
        have ok_o7 : ∀ b, o7 = some b → [6, 7, 8, 9, 11, 12].contains (nd_Kd b) = true := fun b q => ok6 b (e_o7 ▸ q)
        replace hf := nnE hf
        obtain ⟨a8, e_a8, hf⟩ := hf
        have k_a8 : [6, 7, 8, 9, 11, 12].contains (nd_Kd a8) = true := ok_o7 a8 e_a8
        subst e_a8
        replace hf := caE hf
        obtain ⟨v10, h9, e_h9, hf⟩ := hf
        refine nd_v_tags [] (tv_tags l w hfl F d k_a8 e_h9) rfl dX12_read_29 q546 k_a8 (by omega) (by omega) (Nat.le_of_ble_eq_true rfl) ?_
        refine nd_iload_n (j := 2) dX12_read_32 rfl rfl ?_
        refine nd_ishr dX12_read_33 ?_
        refine nd_iconst (v := 1) dX12_read_34 (by decide) ?_
        refine nd_iand dX12_read_35 ?_
        refine nd_iconst (v := 1) dX12_read_36 (by decide) ?_
        refine nd_icmp_ne (tgt := 67) dX12_read_37 (by decide) (fun c11 => ?_) (fun c11 => ?_)
        · replace hf := ifn c11 hf
          replace hf := bnE hf
          obtain ⟨v12, e_v12, hf⟩ := hf
          refine nd_iinc (v := v12) (j := 3) [(4, vi v12), (0, vr (some this)), (1, vr (some x1)), (3, vi x3)] dX12_read_67 rfl (by rw [e_v12]; rfl) (Nat.le_of_ble_eq_true rfl) rfl ?_
          refine nd_goto (tgt := 8) dX12_read_70 (by decide) ?_
          exact nd_loc [1, 2, 3, 0] rfl (ih _ _ _ _ k_this k_x1 _ hf)
        · replace hf := ifp c11 hf
          refine nd_aload_n (j := 1) dX12_read_40 rfl rfl ?_
          refine nd_getP (k := 4) dX12_read_41 k_x1 rfl (Nat.le_of_ble_eq_true rfl) (nd_flN q243) rfl (fun ok13 => ?_)
          replace hf := nnE hf
          obtain ⟨a14, e_a14, hf⟩ := hf
          refine nd_topr e_a14.symm ?_
          have k_a14 : nd_Kd a14 = 2 := nd_c1 (ok13 a14 e_a14)
          refine nd_bipush (v := 9) dX12_read_44 (by decide) ?_
          refine nd_iload (j := 3) dX12_read_46 rfl ?_
          replace hf := caE hf
          obtain ⟨v16, h15, e_h15, hf⟩ := hf
          refine nd_Vr [] (tX3_make l w hfl F d k_a14 e_h15) rfl dX12_read_48 mw_X3_make (Or.inl q896) k_a14 rfl q897 q898 (by omega) (by omega) (Nat.le_of_ble_eq_true rfl) (fun ok17 => ?_)
          have ok_v16 : ∀ b, v16 = some b → [13].contains (nd_Kd b) = true := fun b q => okT13 (ok17 b q)
          refine nd_aload_n (j := 0) dX12_read_51 rfl rfl ?_
          refine nd_getP (k := 0) dX12_read_52 k_this rfl (Nat.le_of_ble_eq_true rfl) (nd_flS q480 q481) rfl (fun ok18 => ?_)
          replace hf := nnE hf
          obtain ⟨a19, e_a19, hf⟩ := hf
          refine nd_topr e_a19.symm ?_
          have k_a19 : nd_Kd a19 = 24 := nd_c1 (ok18 a19 e_a19)
          refine nd_iload (j := 3) dX12_read_55 rfl ?_
          replace hf := ckE hf
          obtain ⟨c20, hf⟩ := hf
          refine nd_aald (t := 4) (C := "NotationDesk$Type") dX12_read_57 k_a19 (by decide) (fun _ => rfl) c20 (fun ok21 => ?_)
          replace hf := bnE hf
          obtain ⟨o22, e_o22, hf⟩ := hf
          refine nd_topr e_o22 ?_
          have ok_o22 : ∀ b, o22 = some b → [6, 7, 8, 9, 11, 12].contains (nd_Kd b) = true := fun b q => ok21 b (e_o22 ▸ q)
          refine nd_aload_n (j := 1) dX12_read_58 rfl rfl ?_
          refine nd_iconst (v := (-1)) dX12_read_59 (by decide) ?_
          replace hf := nnE hf
          obtain ⟨a23, e_a23, hf⟩ := hf
          have k_a23 : [6, 7, 8, 9, 11, 12].contains (nd_Kd a23) = true := ok_o22 a23 e_a23
          subst e_a23
          replace hf := caE hf
          obtain ⟨v25, h24, e_h24, hf⟩ := hf
          refine nd_v_read [vr v16] (hR_read k_a23 k_x1 e_h24) rfl dX12_read_60 q1050 k_a23 (by omega) (by omega) (Nat.le_of_ble_eq_true rfl) (fun ok26 => ?_)
          have ok_v25 : ∀ b, v25 = some b → [13].contains (nd_Kd b) = true := fun b q => okT13 (ok26 b q)
          replace hf := caE hf
          obtain ⟨v28, h27, e_h27, hf⟩ := hf
          refine nd_Sr [] (tX12_with l w hfl F d ok_v16 ok_v25 e_h27) rfl dX12_read_63 mw_X12_with (Or.inl q1031) q1032 (by omega) (by omega) (Nat.le_of_ble_eq_true rfl) (fun ok29 => ?_)
          have ok_v28 : ∀ b, v28 = some b → [13].contains (nd_Kd b) = true := fun b q => okT13 (ok29 b q)
          cases hf
          exact nd_aret (fun b e => okT13' (ok_v28 b e)) dX12_read_66
set_option maxHeartbeats 4000000 in
theorem tX12_read (l : Launch) (w : Wd) (hfl : l.stackTraces = false) (F d : Nat) (R_read : Nat → Nat → Int32 → Hp → Option (Option Nat × Hp)) (hR_read : ∀ {b : Nat} {p0 : Nat} {p1 : Int32} (k_b : [6, 7, 8, 9, 11, 12].contains (nd_Kd b) = true) (k_p0 : nd_Kd p0 = 3) {h : Hp} {r : Option Nat × Hp}, R_read b p0 p1 h = some r → nc_read l w b (1 + 8 * d) (30 + 400 * d) [vr (some b), vr (some p0), vi p1] h (.inl (some (vr r.1)), r.2)) {this : Nat} {p0 : Nat} {p1 : Int32} (k_this : nd_Kd this = 8) (k_p0 : nd_Kd p0 = 3) {h : Hp} {r : Option Nat × Hp} (hf : fX12_read F d R_read this p0 p1 h = some r) : nd_C l w yX12_read cX12_read 5 (some (.object "NotationDesk$Part")) (3 + 8 * d) (83 + 400 * d) [vr (some this), vr (some p0), vi p1] h (.inl (some (vr r.1)), r.2) := by
  refine nd_start (as := [vr (some this), vr (some p0), vi p1]) hfl (by decide) (Nat.le_of_ble_eq_true rfl) ?_
  unfold fX12_read at hf
  refine nd_eqL (L' := [(0, vr (some this)), (1, vr (some p0)), (2, vi p1)]) rfl ?_
  refine nd_aload_n (j := 1) dX12_read_0 rfl rfl ?_
  replace hf := caE hf
  obtain ⟨v2, h1, e_h1, hf⟩ := hf
  refine nd_Vi [] (tX4_tag l w hfl F d k_p0 e_h1) rfl dX12_read_1 mw_X4_tag (Or.inl q1046) k_p0 rfl q1047 q1048 (by omega) (by omega) (Nat.le_of_ble_eq_true rfl) ?_
  refine nd_istore_n [(3, vi v2), (0, vr (some this)), (1, vr (some p0)), (2, vi p1)] dX12_read_4 rfl (Nat.le_of_ble_eq_true rfl) rfl ?_
  refine nd_iconst (v := 0) dX12_read_5 (by decide) ?_
  refine nd_istore [(4, vi 0), (3, vi v2), (0, vr (some this)), (1, vr (some p0)), (2, vi p1)] dX12_read_6 (Nat.le_of_ble_eq_true rfl) rfl ?_
  exact nd_loc [2, 3, 1, 0] rfl (tX12_read_8 l w hfl F d R_read hR_read r F _ _ _ _ k_this k_p0 _ hf)
def fX12_size (F d : Nat) (R_size : Nat → Nat → Hp → Option (Int32 × Hp)) (this : Nat) (p0 : Nat) (h : Hp) : Option (Int32 × Hp) :=
  nn (gP h 1000 this) fun a2 => (
  ck (inb (gI h 1701 p0) (nd_Ln a2)) (
  bn (gR h a2 (Int32.toNatClampNeg (gI h 1701 p0))) fun o5 => (
  bn (gP h 1706 p0) fun o7 => (
  nn o5 fun a8 => (
  nn o7 fun a9 => (
  ca (R_size a8 a9 h) fun v11 h10 => (
  some (v11, h10))))))))
set_option maxHeartbeats 4000000 in
theorem tX12_size (l : Launch) (w : Wd) (hfl : l.stackTraces = false) (F d : Nat) (R_size : Nat → Nat → Hp → Option (Int32 × Hp)) (hR_size : ∀ {b : Nat} {p0 : Nat} (k_b : [6, 7, 8, 9, 11, 12].contains (nd_Kd b) = true) (k_p0 : nd_Kd p0 = 13) {h : Hp} {r : Int32 × Hp}, R_size b p0 h = some r → nc_size l w b (1 + 8 * d) (30 + 400 * d) [vr (some b), vr (some p0)] h (.inl (some (vi r.1)), r.2)) {this : Nat} {p0 : Nat} (k_this : nd_Kd this = 8) (k_p0 : nd_Kd p0 = 13) {h : Hp} {r : Int32 × Hp} (hf : fX12_size F d R_size this p0 h = some r) : nd_C l w yX12_size cX12_size 2 (some .int) (2 + 8 * d) (51 + 400 * d) [vr (some this), vr (some p0)] h (.inl (some (vi r.1)), r.2) := by
  refine nd_start (as := [vr (some this), vr (some p0)]) hfl (by decide) (Nat.le_of_ble_eq_true rfl) ?_
  unfold fX12_size at hf
  refine nd_eqL (L' := [(0, vr (some this)), (1, vr (some p0))]) rfl ?_
  refine nd_aload_n (j := 0) dX12_size_0 rfl rfl ?_
  refine nd_getP (k := 0) dX12_size_1 k_this rfl (Nat.le_of_ble_eq_true rfl) (nd_flS q480 q481) rfl (fun ok1 => ?_)
  replace hf := nnE hf
  obtain ⟨a2, e_a2, hf⟩ := hf
  refine nd_topr e_a2.symm ?_
  have k_a2 : nd_Kd a2 = 24 := nd_c1 (ok1 a2 e_a2)
  refine nd_aload_n (j := 1) dX12_size_4 rfl rfl ?_
  refine nd_getI (k := 1) dX12_size_5 k_p0 rfl (Nat.le_of_ble_eq_true rfl) (nd_flN q912) rfl ?_
  replace hf := ckE hf
  obtain ⟨c3, hf⟩ := hf
  refine nd_aald (t := 4) (C := "NotationDesk$Type") dX12_size_8 k_a2 (by decide) (fun _ => rfl) c3 (fun ok4 => ?_)
  replace hf := bnE hf
  obtain ⟨o5, e_o5, hf⟩ := hf
  refine nd_topr e_o5 ?_
  have ok_o5 : ∀ b, o5 = some b → [6, 7, 8, 9, 11, 12].contains (nd_Kd b) = true := fun b q => ok4 b (e_o5 ▸ q)
  refine nd_aload_n (j := 1) dX12_size_9 rfl rfl ?_
  refine nd_getP (k := 6) dX12_size_10 k_p0 rfl (Nat.le_of_ble_eq_true rfl) (nd_flN q926) rfl (fun ok6 => ?_)
  replace hf := bnE hf
  obtain ⟨o7, e_o7, hf⟩ := hf
  refine nd_topr e_o7 ?_
  have ok_o7 : ∀ b, o7 = some b → [13].contains (nd_Kd b) = true := fun b q => ok6 b (e_o7 ▸ q)
  replace hf := nnE hf
  obtain ⟨a8, e_a8, hf⟩ := hf
  have k_a8 : [6, 7, 8, 9, 11, 12].contains (nd_Kd a8) = true := ok_o5 a8 e_a8
  subst e_a8
  replace hf := nnE hf
  obtain ⟨a9, e_a9, hf⟩ := hf
  have k_a9 : nd_Kd a9 = 13 := nd_c1 (ok_o7 a9 e_a9)
  subst e_a9
  replace hf := caE hf
  obtain ⟨v11, h10, e_h10, hf⟩ := hf
  refine nd_v_size [] (hR_size k_a8 k_a9 e_h10) rfl dX12_size_13 q1179 k_a8 (by omega) (by omega) (Nat.le_of_ble_eq_true rfl) ?_
  cases hf
  exact nd_iret (v := v11) dX12_size_16
def fX4_isThere (F d : Nat) (this : Nat) (h : Hp) : Option (Int32 × Hp) :=
  if (8 * (gI h 402 this)) < (gI h 403 this) then
  (some (0, h))
  else
  (some (1, h))
set_option maxHeartbeats 4000000 in
theorem tX4_isThere (l : Launch) (w : Wd) (hfl : l.stackTraces = false) (F d : Nat) {this : Nat} (k_this : nd_Kd this = 3) {h : Hp} {r : Int32 × Hp} (hf : fX4_isThere F d this h = some r) : nd_C l w yX4_isThere cX4_isThere 1 (some .boolean) 0 0 [vr (some this)] h (.inl (some (vi r.1)), r.2) := by
  refine nd_start (as := [vr (some this)]) hfl (by decide) (Nat.le_of_ble_eq_true rfl) ?_
  unfold fX4_isThere at hf
  refine nd_eqL (L' := [(0, vr (some this))]) rfl ?_
  refine nd_aload_n (j := 0) dX4_isThere_0 rfl rfl ?_
  refine nd_getI (k := 3) dX4_isThere_1 k_this rfl (Nat.le_of_ble_eq_true rfl) (nd_flO q236) rfl ?_
  refine nd_bipush (v := 8) dX4_isThere_4 (by decide) ?_
  refine nd_aload_n (j := 0) dX4_isThere_6 rfl rfl ?_
  refine nd_getI (k := 2) dX4_isThere_7 k_this rfl (Nat.le_of_ble_eq_true rfl) (nd_flO q234) rfl ?_
  refine nd_imul dX4_isThere_10 ?_
  refine nd_icmp_gt (tgt := 18) dX4_isThere_11 (by decide) (fun c1 => ?_) (fun c1 => ?_)
  · replace hf := ifp c1 hf
    refine nd_iconst (v := 0) dX4_isThere_18 (by decide) ?_
    cases hf
    exact nd_zret (v := 0) (by decide) dX4_isThere_19
  · replace hf := ifn c1 hf
    refine nd_iconst (v := 1) dX4_isThere_14 (by decide) ?_
    refine nd_goto (tgt := 19) dX4_isThere_15 (by decide) ?_
    cases hf
    exact nd_zret (v := 1) (by decide) dX4_isThere_19
def fX4_align (F d : Nat) (this : Nat) (h : Hp) : Option (Hp) :=
  bn (sI h 403 this ((((gI h 403 this) + 7) / 8) * 8)) fun h1 => (
  some h1)
set_option maxHeartbeats 4000000 in
theorem tX4_align (l : Launch) (w : Wd) (hfl : l.stackTraces = false) (F d : Nat) {this : Nat} (k_this : nd_Kd this = 3) {h : Hp} {r : Hp} (hf : fX4_align F d this h = some r) : nd_C l w yX4_align cX4_align 1 none 0 0 [vr (some this)] h (.inl none, r) := by
  refine nd_start (as := [vr (some this)]) hfl (by decide) (Nat.le_of_ble_eq_true rfl) ?_
  unfold fX4_align at hf
  refine nd_eqL (L' := [(0, vr (some this))]) rfl ?_
  refine nd_aload_n (j := 0) dX4_align_0 rfl rfl ?_
  refine nd_aload_n (j := 0) dX4_align_1 rfl rfl ?_
  refine nd_getI (k := 3) dX4_align_2 k_this rfl (Nat.le_of_ble_eq_true rfl) (nd_flO q236) rfl ?_
  refine nd_bipush (v := 7) dX4_align_5 (by decide) ?_
  refine nd_iadd dX4_align_7 ?_
  refine nd_bipush (v := 8) dX4_align_8 (by decide) ?_
  refine nd_idiv dX4_align_10 (by decide) ?_
  refine nd_bipush (v := 8) dX4_align_11 (by decide) ?_
  refine nd_imul dX4_align_13 ?_
  refine nd_putN (k := 3) dX4_align_14 k_this rfl (Nat.le_of_ble_eq_true rfl) (nd_flO q236) rfl rfl rfl ?_
  replace hf := bnE hf
  obtain ⟨h1, e_h1, hf⟩ := hf
  refine nd_hp e_h1 ?_
  cases hf
  exact nd_vret dX4_align_17
def fX4_take_52 (F d : Nat) (k_4 : Nat → Int32 → Int32 → Int32 → Hp → Option (Int32 × Hp)) (this : Nat) (x1 : Int32) (x2 : Int32) (x3 : Int32) (s0 : Int32) (h : Hp) : Option (Int32 × Hp) :=
  bn ((2 * x2) + s0) fun v1 => (
  bn (sI h 403 this ((gI h 403 this) + 1)) fun h2 => (
  bn (x3 + 1) fun v3 => (
  k_4 this x1 v1 v3 h2)))
def fX4_take_4 (F d : Nat) : Nat → Nat → Int32 → Int32 → Int32 → Hp → Option (Int32 × Hp)
  | 0, _, _, _, _, _ => none
  | n + 1, this, x1, x2, x3, h =>
    if x1 ≤ x3 then
    (some (x2, h))
    else
    (if (8 * (gI h 402 this)) ≤ (gI h 403 this) then
    (fX4_take_52 F d (fX4_take_4 F d n) this x1 x2 x3 0 h)
    else
    (nn (gP h 400 this) fun a4 => (
    ck (inb ((gI h 403 this) / 8) (nd_Ln a4)) (
    bn (gI h 403 this) fun v6 => (
    fX4_take_52 F d (fX4_take_4 F d n) this x1 x2 x3 (((gA h a4 (Int32.toNatClampNeg ((gI h 403 this) / 8))) >>> ((7 - (v6 - v6 / 8 * 8)) &&& 31)) &&& 1) h)))))
def fX4_take (F d : Nat) (this : Nat) (p0 : Int32) (h : Hp) : Option (Int32 × Hp) :=
  fX4_take_4 F d F this p0 0 0 h
set_option maxHeartbeats 4000000 in
theorem tX4_take_52 (l : Launch) (w : Wd) (hfl : l.stackTraces = false) (F d : Nat) (r : Int32 × Hp) (k_4 : Nat → Int32 → Int32 → Int32 → Hp → Option (Int32 × Hp)) (hk_4 : ∀ (this : Nat) (x1 : Int32) (x2 : Int32) (x3 : Int32) (k_this : nd_Kd this = 3) (h : Hp), k_4 this x1 x2 x3 h = some r → nd_V l w yX4_take cX4_take 5 (some .int) 0 0 (.inl (some (vi r.1)), r.2) h 4 [(0, vr (some this)), (1, vi x1), (2, vi x2), (3, vi x3)] []) (this : Nat) (x1 : Int32) (x2 : Int32) (x3 : Int32) (s0 : Int32) (k_this : nd_Kd this = 3) (h : Hp) (hf : fX4_take_52 F d k_4 this x1 x2 x3 s0 h = some r) : nd_V l w yX4_take cX4_take 5 (some .int) 0 0 (.inl (some (vi r.1)), r.2) h 52 [(0, vr (some this)), (1, vi x1), (2, vi x2), (3, vi x3)] [vi s0] := by
  unfold fX4_take_52 at hf
  refine nd_istore [(4, vi s0), (0, vr (some this)), (1, vi x1), (2, vi x2), (3, vi x3)] dX4_take_52 (Nat.le_of_ble_eq_true rfl) rfl ?_
  refine nd_iconst (v := 2) dX4_take_54 (by decide) ?_
  refine nd_iload_n (j := 3) dX4_take_55 rfl rfl ?_
  refine nd_imul dX4_take_56 ?_
  refine nd_iload (j := 0) dX4_take_57 rfl ?_
  refine nd_iadd dX4_take_59 ?_
  replace hf := bnE hf
  obtain ⟨v1, e_v1, hf⟩ := hf
  refine nd_top e_v1 ?_
  refine nd_istore_n [(2, vi v1), (4, vi s0), (0, vr (some this)), (1, vi x1), (3, vi x3)] dX4_take_60 rfl (Nat.le_of_ble_eq_true rfl) rfl ?_
  refine nd_aload_n (j := 2) dX4_take_61 rfl rfl ?_
  refine nd_dup dX4_take_62 rfl ?_
  refine nd_getI (k := 3) dX4_take_63 k_this rfl (Nat.le_of_ble_eq_true rfl) (nd_flO q236) rfl ?_
  refine nd_iconst (v := 1) dX4_take_66 (by decide) ?_
  refine nd_iadd dX4_take_67 ?_
  refine nd_putN (k := 3) dX4_take_68 k_this rfl (Nat.le_of_ble_eq_true rfl) (nd_flO q236) rfl rfl rfl ?_
  replace hf := bnE hf
  obtain ⟨h2, e_h2, hf⟩ := hf
  refine nd_hp e_h2 ?_
  replace hf := bnE hf
  obtain ⟨v3, e_v3, hf⟩ := hf
  refine nd_iinc (v := v3) (j := 4) [(3, vi v3), (2, vi v1), (4, vi s0), (0, vr (some this)), (1, vi x1)] dX4_take_71 rfl (by rw [e_v3]; rfl) (Nat.le_of_ble_eq_true rfl) rfl ?_
  refine nd_goto (tgt := 4) dX4_take_74 (by decide) ?_
  exact nd_loc [3, 4, 1, 0] rfl (hk_4 _ _ _ _ k_this _ hf)
set_option maxHeartbeats 4000000 in
theorem tX4_take_4 (l : Launch) (w : Wd) (hfl : l.stackTraces = false) (F d : Nat) (r : Int32 × Hp) : ∀ (n : Nat) (this : Nat) (x1 : Int32) (x2 : Int32) (x3 : Int32) (k_this : nd_Kd this = 3) (h : Hp), fX4_take_4 F d n this x1 x2 x3 h = some r → nd_V l w yX4_take cX4_take 5 (some .int) 0 0 (.inl (some (vi r.1)), r.2) h 4 [(0, vr (some this)), (1, vi x1), (2, vi x2), (3, vi x3)] [] := by
  intro n
  induction n with
  | zero => intro _ _ _ _ _ _ hf; cases hf
  | succ n ih =>
    intro this x1 x2 x3 k_this h hf
    unfold fX4_take_4 at hf
    refine nd_iload_n (j := 3) dX4_take_4 rfl rfl ?_
    refine nd_iload_n (j := 1) dX4_take_5 rfl rfl ?_
    refine nd_icmp_ge (tgt := 77) dX4_take_6 (by decide) (fun c1 => ?_) (fun c1 => ?_)
    · replace hf := ifp c1 hf
      refine nd_iload_n (j := 2) dX4_take_77 rfl rfl ?_
      cases hf
      exact nd_iret (v := x2) dX4_take_78
    · replace hf := ifn c1 hf
      refine nd_aload_n (j := 0) dX4_take_9 rfl rfl ?_
      refine nd_getI (k := 3) dX4_take_10 k_this rfl (Nat.le_of_ble_eq_true rfl) (nd_flO q236) rfl ?_
      refine nd_bipush (v := 8) dX4_take_13 (by decide) ?_
      refine nd_aload_n (j := 0) dX4_take_15 rfl rfl ?_
      refine nd_getI (k := 2) dX4_take_16 k_this rfl (Nat.le_of_ble_eq_true rfl) (nd_flO q234) rfl ?_
      refine nd_imul dX4_take_19 ?_
      refine nd_icmp_ge (tgt := 51) dX4_take_20 (by decide) (fun c2 => ?_) (fun c2 => ?_)
      · replace hf := ifp c2 hf
        refine nd_iconst (v := 0) dX4_take_51 (by decide) ?_
        exact nd_loc [0, 1, 2, 3] rfl (tX4_take_52 l w hfl F d r (fX4_take_4 F d n) ih _ _ _ _ _ k_this _ hf)
      · replace hf := ifn c2 hf
        refine nd_aload_n (j := 0) dX4_take_23 rfl rfl ?_
        refine nd_getP (k := 0) dX4_take_24 k_this rfl (Nat.le_of_ble_eq_true rfl) (nd_flO q231) rfl (fun ok3 => ?_)
        replace hf := nnE hf
        obtain ⟨a4, e_a4, hf⟩ := hf
        refine nd_topr e_a4.symm ?_
        have k_a4 : nd_Kd a4 = 20 := nd_c1 (ok3 a4 e_a4)
        refine nd_aload_n (j := 0) dX4_take_27 rfl rfl ?_
        refine nd_getI (k := 3) dX4_take_28 k_this rfl (Nat.le_of_ble_eq_true rfl) (nd_flO q236) rfl ?_
        refine nd_bipush (v := 8) dX4_take_31 (by decide) ?_
        refine nd_idiv dX4_take_33 (by decide) ?_
        replace hf := ckE hf
        obtain ⟨c5, hf⟩ := hf
        refine nd_iald dX4_take_34 k_a4 c5 ?_
        refine nd_bipush (v := 7) dX4_take_35 (by decide) ?_
        refine nd_aload_n (j := 0) dX4_take_37 rfl rfl ?_
        refine nd_getI (k := 3) dX4_take_38 k_this rfl (Nat.le_of_ble_eq_true rfl) (nd_flO q236) rfl ?_
        refine nd_bipush (v := 8) dX4_take_41 (by decide) ?_
        replace hf := bnE hf
        obtain ⟨v6, e_v6, hf⟩ := hf
        refine nd_top2 e_v6 ?_
        refine nd_irem dX4_take_43 (by decide) ?_
        refine nd_isub dX4_take_44 ?_
        refine nd_ishr dX4_take_45 ?_
        refine nd_iconst (v := 1) dX4_take_46 (by decide) ?_
        refine nd_iand dX4_take_47 ?_
        refine nd_goto (tgt := 52) dX4_take_48 (by decide) ?_
        exact nd_loc [0, 1, 2, 3] rfl (tX4_take_52 l w hfl F d r (fX4_take_4 F d n) ih _ _ _ _ _ k_this _ hf)
set_option maxHeartbeats 4000000 in
theorem tX4_take (l : Launch) (w : Wd) (hfl : l.stackTraces = false) (F d : Nat) {this : Nat} {p0 : Int32} (k_this : nd_Kd this = 3) {h : Hp} {r : Int32 × Hp} (hf : fX4_take F d this p0 h = some r) : nd_C l w yX4_take cX4_take 5 (some .int) 0 0 [vr (some this), vi p0] h (.inl (some (vi r.1)), r.2) := by
  refine nd_start (as := [vr (some this), vi p0]) hfl (by decide) (Nat.le_of_ble_eq_true rfl) ?_
  unfold fX4_take at hf
  refine nd_eqL (L' := [(0, vr (some this)), (1, vi p0)]) rfl ?_
  refine nd_iconst (v := 0) dX4_take_0 (by decide) ?_
  refine nd_istore_n [(2, vi 0), (0, vr (some this)), (1, vi p0)] dX4_take_1 rfl (Nat.le_of_ble_eq_true rfl) rfl ?_
  refine nd_iconst (v := 0) dX4_take_2 (by decide) ?_
  refine nd_istore_n [(3, vi 0), (2, vi 0), (0, vr (some this)), (1, vi p0)] dX4_take_3 rfl (Nat.le_of_ble_eq_true rfl) rfl ?_
  exact nd_loc [2, 3, 1, 0] rfl (tX4_take_4 l w hfl F d r F _ _ _ _ k_this _ hf)
def fX4_takeNumber_33 (F d : Nat) (s0 : Int32) (s1 : Nat) (s2 : Int32) (h : Hp) : Option (Int32 × Hp) :=
  ca (fX4_take F d s1 s2 h) fun v2 h1 => (
  some ((s0 + v2), h1))
def fX4_takeNumber (F d : Nat) (this : Nat) (p0 : Int32) (p1 : Int32) (h : Hp) : Option (Int32 × Hp) :=
  bn ((p1 - p0) + 1) fun v1 => (
  if v1 ≤ 255 then
  (ca (fX1_width F d (v1 - 1) h) fun v4 h3 => (
  ca (fX4_take F d this v4 h3) fun v6 h5 => (
  some ((p0 + v6), h5))))
  else
  (cv (fX4_align F d this h) fun h7 => (
  if v1 = 256 then
  (fX4_takeNumber_33 F d p0 this 8 h7)
  else
  (fX4_takeNumber_33 F d p0 this 16 h7))))
set_option maxHeartbeats 4000000 in
theorem tX4_takeNumber_33 (l : Launch) (w : Wd) (hfl : l.stackTraces = false) (F d : Nat) (r : Int32 × Hp) (s0 : Int32) (s1 : Nat) (s2 : Int32) (k_s1 : nd_Kd s1 = 3) (h : Hp) (hf : fX4_takeNumber_33 F d s0 s1 s2 h = some r) : nd_V l w yX4_takeNumber cX4_takeNumber 4 (some .int) 1 24 (.inl (some (vi r.1)), r.2) h 33 [] [vi s2, vr (some s1), vi s0] := by
  unfold fX4_takeNumber_33 at hf
  replace hf := caE hf
  obtain ⟨v2, h1, e_h1, hf⟩ := hf
  refine nd_Vi [vi s0] (tX4_take l w hfl F d k_s1 e_h1) rfl dX4_takeNumber_33 mw_X4_take (Or.inl q878) k_s1 rfl q879 q880 (by omega) (by omega) (Nat.le_of_ble_eq_true rfl) ?_
  refine nd_iadd dX4_takeNumber_36 ?_
  cases hf
  exact nd_iret (v := (s0 + v2)) dX4_takeNumber_37
set_option maxHeartbeats 4000000 in
theorem tX4_takeNumber (l : Launch) (w : Wd) (hfl : l.stackTraces = false) (F d : Nat) {this : Nat} {p0 : Int32} {p1 : Int32} (k_this : nd_Kd this = 3) {h : Hp} {r : Int32 × Hp} (hf : fX4_takeNumber F d this p0 p1 h = some r) : nd_C l w yX4_takeNumber cX4_takeNumber 4 (some .int) 1 24 [vr (some this), vi p0, vi p1] h (.inl (some (vi r.1)), r.2) := by
  refine nd_start (as := [vr (some this), vi p0, vi p1]) hfl (by decide) (Nat.le_of_ble_eq_true rfl) ?_
  unfold fX4_takeNumber at hf
  refine nd_eqL (L' := [(0, vr (some this)), (1, vi p0), (2, vi p1)]) rfl ?_
  refine nd_iload_n (j := 2) dX4_takeNumber_0 rfl rfl ?_
  refine nd_iload_n (j := 1) dX4_takeNumber_1 rfl rfl ?_
  refine nd_isub dX4_takeNumber_2 ?_
  refine nd_iconst (v := 1) dX4_takeNumber_3 (by decide) ?_
  refine nd_iadd dX4_takeNumber_4 ?_
  replace hf := bnE hf
  obtain ⟨v1, e_v1, hf⟩ := hf
  refine nd_top e_v1 ?_
  refine nd_istore_n [(3, vi v1), (0, vr (some this)), (1, vi p0), (2, vi p1)] dX4_takeNumber_5 rfl (Nat.le_of_ble_eq_true rfl) rfl ?_
  refine nd_iload_n (j := 0) dX4_takeNumber_6 rfl rfl ?_
  refine nd_sipush (v := 255) dX4_takeNumber_7 (by decide) ?_
  refine nd_icmp_le (tgt := 38) dX4_takeNumber_10 (by decide) (fun c2 => ?_) (fun c2 => ?_)
  · replace hf := ifp c2 hf
    refine nd_iload_n (j := 2) dX4_takeNumber_38 rfl rfl ?_
    refine nd_aload_n (j := 1) dX4_takeNumber_39 rfl rfl ?_
    refine nd_iload_n (j := 0) dX4_takeNumber_40 rfl rfl ?_
    refine nd_iconst (v := 1) dX4_takeNumber_41 (by decide) ?_
    refine nd_isub dX4_takeNumber_42 ?_
    replace hf := caE hf
    obtain ⟨v4, h3, e_h3, hf⟩ := hf
    refine nd_Si [vr (some this), vi p0] (tX1_width l w hfl F d e_h3) rfl dX4_takeNumber_43 mw_X1_width (Or.inr ⟨_, q882⟩) q883 (by omega) (by omega) (Nat.le_of_ble_eq_true rfl) ?_
    replace hf := caE hf
    obtain ⟨v6, h5, e_h5, hf⟩ := hf
    refine nd_Vi [vi p0] (tX4_take l w hfl F d k_this e_h5) rfl dX4_takeNumber_46 mw_X4_take (Or.inl q878) k_this rfl q879 q880 (by omega) (by omega) (Nat.le_of_ble_eq_true rfl) ?_
    refine nd_iadd dX4_takeNumber_49 ?_
    cases hf
    exact nd_iret (v := (p0 + v6)) dX4_takeNumber_50
  · replace hf := ifn c2 hf
    refine nd_aload_n (j := 1) dX4_takeNumber_13 rfl rfl ?_
    replace hf := cvE hf
    obtain ⟨h7, e_h7, hf⟩ := hf
    refine nd_Vv [] (tX4_align l w hfl F d k_this e_h7) rfl dX4_takeNumber_14 mw_X4_align (Or.inl q874) k_this rfl q875 q876 (by omega) (by omega) (Nat.le_of_ble_eq_true rfl) ?_
    refine nd_iload_n (j := 2) dX4_takeNumber_17 rfl rfl ?_
    refine nd_aload_n (j := 1) dX4_takeNumber_18 rfl rfl ?_
    refine nd_iload_n (j := 0) dX4_takeNumber_19 rfl rfl ?_
    refine nd_sipush (v := 256) dX4_takeNumber_20 (by decide) ?_
    refine nd_icmp_ne (tgt := 31) dX4_takeNumber_23 (by decide) (fun c9 => ?_) (fun c9 => ?_)
    · replace hf := ifn c9 hf
      refine nd_bipush (v := 16) dX4_takeNumber_31 (by decide) ?_
      exact nd_loc [] rfl (tX4_takeNumber_33 l w hfl F d r _ _ _ k_this _ hf)
    · replace hf := ifp c9 hf
      refine nd_bipush (v := 8) dX4_takeNumber_26 (by decide) ?_
      refine nd_goto (tgt := 33) dX4_takeNumber_28 (by decide) ?_
      exact nd_loc [] rfl (tX4_takeNumber_33 l w hfl F d r _ _ _ k_this _ hf)
def fX12_unpack_14 (F d : Nat) (R_unpack : Nat → Nat → Hp → Option (Option Nat × Hp)) : Nat → Nat → Nat → Int32 → Int32 → Hp → Option (Option Nat × Hp)
  | 0, _, _, _, _, _ => none
  | n + 1, this, x1, x2, x3, h =>
    if (gI h 1001 this) ≤ x3 then
    (some (none, h))
    else
    (ca (fX4_isThere F d x1 h) fun v3 h2 => (
    if v3 = 0 then
    (some (none, h2))
    else
    (ca (fX12_rank F d this x3 h2) fun v6 h5 => (
    if v6 = x2 then
    (nn (gP h5 404 x1) fun a10 => (
    ca (fX3_make F d a10 9 x3 h5) fun v12 h11 => (
    nn (gP h11 1000 this) fun a15 => (
    ck (inb x3 (nd_Ln a15)) (
    bn (gR h11 a15 (Int32.toNatClampNeg x3)) fun o18 => (
    nn o18 fun a19 => (
    ca (R_unpack a19 x1 h11) fun v21 h20 => (
    ca (fX12_with F d v12 v21 h20) fun v24 h23 => (
    some (v24, h23))))))))))
    else
    (bn (x3 + 1) fun v8 => (
    fX12_unpack_14 F d R_unpack n this x1 x2 v8 h5))))))
def fX12_unpack (F d : Nat) (R_unpack : Nat → Nat → Hp → Option (Option Nat × Hp)) (this : Nat) (p0 : Nat) (h : Hp) : Option (Option Nat × Hp) :=
  ca (fX4_takeNumber F d p0 0 ((gI h 1001 this) - 1) h) fun v2 h1 => (
  fX12_unpack_14 F d R_unpack F this p0 v2 0 h1)
set_option maxHeartbeats 4000000 in
theorem tX12_unpack_14 (l : Launch) (w : Wd) (hfl : l.stackTraces = false) (F d : Nat) (R_unpack : Nat → Nat → Hp → Option (Option Nat × Hp)) (hR_unpack : ∀ {b : Nat} {p0 : Nat} (k_b : [6, 7, 8, 9, 11, 12].contains (nd_Kd b) = true) (k_p0 : nd_Kd p0 = 3) {h : Hp} {r : Option Nat × Hp}, R_unpack b p0 h = some r → nc_unpack l w b (1 + 8 * d) (30 + 400 * d) [vr (some b), vr (some p0)] h (.inl (some (vr r.1)), r.2)) (r : Option Nat × Hp) : ∀ (n : Nat) (this : Nat) (x1 : Nat) (x2 : Int32) (x3 : Int32) (k_this : nd_Kd this = 8) (k_x1 : nd_Kd x1 = 3) (h : Hp), fX12_unpack_14 F d R_unpack n this x1 x2 x3 h = some r → nd_V l w yX12_unpack cX12_unpack 4 (some (.object "NotationDesk$Part")) (3 + 8 * d) (83 + 400 * d) (.inl (some (vr r.1)), r.2) h 14 [(0, vr (some this)), (1, vr (some x1)), (2, vi x2), (3, vi x3)] [] := by
  intro n
  induction n with
  | zero => intro _ _ _ _ _ _ _ hf; cases hf
  | succ n ih =>
    intro this x1 x2 x3 k_this k_x1 h hf
    unfold fX12_unpack_14 at hf
    refine nd_iload_n (j := 3) dX12_unpack_14 rfl rfl ?_
    refine nd_aload_n (j := 0) dX12_unpack_15 rfl rfl ?_
    refine nd_getI (k := 1) dX12_unpack_16 k_this rfl (Nat.le_of_ble_eq_true rfl) (nd_flS q485 q486) rfl ?_
    refine nd_icmp_ge (tgt := 68) dX12_unpack_19 (by decide) (fun c1 => ?_) (fun c1 => ?_)
    · replace hf := ifp c1 hf
      refine nd_null dX12_unpack_68 ?_
      cases hf
      exact nd_aret (fun b e => by cases e) dX12_unpack_69
    · replace hf := ifn c1 hf
      refine nd_aload_n (j := 1) dX12_unpack_22 rfl rfl ?_
      replace hf := caE hf
      obtain ⟨v3, h2, e_h2, hf⟩ := hf
      refine nd_Vi [] (tX4_isThere l w hfl F d k_x1 e_h2) rfl dX12_unpack_23 mw_X4_isThere (Or.inl q885) k_x1 rfl q886 q887 (by omega) (by omega) (Nat.le_of_ble_eq_true rfl) ?_
      refine nd_if_eq (tgt := 68) dX12_unpack_26 (by decide) (fun c4 => ?_) (fun c4 => ?_)
      · replace hf := ifp c4 hf
        refine nd_null dX12_unpack_68 ?_
        cases hf
        exact nd_aret (fun b e => by cases e) dX12_unpack_69
      · replace hf := ifn c4 hf
        refine nd_aload_n (j := 0) dX12_unpack_29 rfl rfl ?_
        refine nd_iload_n (j := 3) dX12_unpack_30 rfl rfl ?_
        replace hf := caE hf
        obtain ⟨v6, h5, e_h5, hf⟩ := hf
        refine nd_Vi [] (tX12_rank l w hfl F d k_this e_h5) rfl dX12_unpack_31 mw_X12_rank (Or.inl q889) k_this rfl q891 qs20 (by omega) (by omega) (Nat.le_of_ble_eq_true rfl) ?_
        refine nd_iload_n (j := 2) dX12_unpack_34 rfl rfl ?_
        refine nd_icmp_ne (tgt := 62) dX12_unpack_35 (by decide) (fun c7 => ?_) (fun c7 => ?_)
        · replace hf := ifn c7 hf
          replace hf := bnE hf
          obtain ⟨v8, e_v8, hf⟩ := hf
          refine nd_iinc (v := v8) (j := 3) [(3, vi v8), (0, vr (some this)), (1, vr (some x1)), (2, vi x2)] dX12_unpack_62 rfl (by rw [e_v8]; rfl) (Nat.le_of_ble_eq_true rfl) rfl ?_
          refine nd_goto (tgt := 14) dX12_unpack_65 (by decide) ?_
          exact nd_loc [1, 2, 3, 0] rfl (ih _ _ _ _ k_this k_x1 _ hf)
        · replace hf := ifp c7 hf
          refine nd_aload_n (j := 1) dX12_unpack_38 rfl rfl ?_
          refine nd_getP (k := 4) dX12_unpack_39 k_x1 rfl (Nat.le_of_ble_eq_true rfl) (nd_flN q243) rfl (fun ok9 => ?_)
          replace hf := nnE hf
          obtain ⟨a10, e_a10, hf⟩ := hf
          refine nd_topr e_a10.symm ?_
          have k_a10 : nd_Kd a10 = 2 := nd_c1 (ok9 a10 e_a10)
          refine nd_bipush (v := 9) dX12_unpack_42 (by decide) ?_
          refine nd_iload_n (j := 3) dX12_unpack_44 rfl rfl ?_
          replace hf := caE hf
          obtain ⟨v12, h11, e_h11, hf⟩ := hf
          refine nd_Vr [] (tX3_make l w hfl F d k_a10 e_h11) rfl dX12_unpack_45 mw_X3_make (Or.inl q896) k_a10 rfl q897 q898 (by omega) (by omega) (Nat.le_of_ble_eq_true rfl) (fun ok13 => ?_)
          have ok_v12 : ∀ b, v12 = some b → [13].contains (nd_Kd b) = true := fun b q => okT13 (ok13 b q)
          refine nd_aload_n (j := 0) dX12_unpack_48 rfl rfl ?_
          refine nd_getP (k := 0) dX12_unpack_49 k_this rfl (Nat.le_of_ble_eq_true rfl) (nd_flS q480 q481) rfl (fun ok14 => ?_)
          replace hf := nnE hf
          obtain ⟨a15, e_a15, hf⟩ := hf
          refine nd_topr e_a15.symm ?_
          have k_a15 : nd_Kd a15 = 24 := nd_c1 (ok14 a15 e_a15)
          refine nd_iload_n (j := 3) dX12_unpack_52 rfl rfl ?_
          replace hf := ckE hf
          obtain ⟨c16, hf⟩ := hf
          refine nd_aald (t := 4) (C := "NotationDesk$Type") dX12_unpack_53 k_a15 (by decide) (fun _ => rfl) c16 (fun ok17 => ?_)
          replace hf := bnE hf
          obtain ⟨o18, e_o18, hf⟩ := hf
          refine nd_topr e_o18 ?_
          have ok_o18 : ∀ b, o18 = some b → [6, 7, 8, 9, 11, 12].contains (nd_Kd b) = true := fun b q => ok17 b (e_o18 ▸ q)
          refine nd_aload_n (j := 1) dX12_unpack_54 rfl rfl ?_
          replace hf := nnE hf
          obtain ⟨a19, e_a19, hf⟩ := hf
          have k_a19 : [6, 7, 8, 9, 11, 12].contains (nd_Kd a19) = true := ok_o18 a19 e_a19
          subst e_a19
          replace hf := caE hf
          obtain ⟨v21, h20, e_h20, hf⟩ := hf
          refine nd_v_unpack [vr v12] (hR_unpack k_a19 k_x1 e_h20) rfl dX12_unpack_55 q951 k_a19 (by omega) (by omega) (Nat.le_of_ble_eq_true rfl) (fun ok22 => ?_)
          have ok_v21 : ∀ b, v21 = some b → [13].contains (nd_Kd b) = true := fun b q => okT13 (ok22 b q)
          replace hf := caE hf
          obtain ⟨v24, h23, e_h23, hf⟩ := hf
          refine nd_Sr [] (tX12_with l w hfl F d ok_v12 ok_v21 e_h23) rfl dX12_unpack_58 mw_X12_with (Or.inl q1031) q1032 (by omega) (by omega) (Nat.le_of_ble_eq_true rfl) (fun ok25 => ?_)
          have ok_v24 : ∀ b, v24 = some b → [13].contains (nd_Kd b) = true := fun b q => okT13 (ok25 b q)
          cases hf
          exact nd_aret (fun b e => okT13' (ok_v24 b e)) dX12_unpack_61
set_option maxHeartbeats 4000000 in
theorem tX12_unpack (l : Launch) (w : Wd) (hfl : l.stackTraces = false) (F d : Nat) (R_unpack : Nat → Nat → Hp → Option (Option Nat × Hp)) (hR_unpack : ∀ {b : Nat} {p0 : Nat} (k_b : [6, 7, 8, 9, 11, 12].contains (nd_Kd b) = true) (k_p0 : nd_Kd p0 = 3) {h : Hp} {r : Option Nat × Hp}, R_unpack b p0 h = some r → nc_unpack l w b (1 + 8 * d) (30 + 400 * d) [vr (some b), vr (some p0)] h (.inl (some (vr r.1)), r.2)) {this : Nat} {p0 : Nat} (k_this : nd_Kd this = 8) (k_p0 : nd_Kd p0 = 3) {h : Hp} {r : Option Nat × Hp} (hf : fX12_unpack F d R_unpack this p0 h = some r) : nd_C l w yX12_unpack cX12_unpack 4 (some (.object "NotationDesk$Part")) (3 + 8 * d) (83 + 400 * d) [vr (some this), vr (some p0)] h (.inl (some (vr r.1)), r.2) := by
  refine nd_start (as := [vr (some this), vr (some p0)]) hfl (by decide) (Nat.le_of_ble_eq_true rfl) ?_
  unfold fX12_unpack at hf
  refine nd_eqL (L' := [(0, vr (some this)), (1, vr (some p0))]) rfl ?_
  refine nd_aload_n (j := 1) dX12_unpack_0 rfl rfl ?_
  refine nd_iconst (v := 0) dX12_unpack_1 (by decide) ?_
  refine nd_aload_n (j := 0) dX12_unpack_2 rfl rfl ?_
  refine nd_getI (k := 1) dX12_unpack_3 k_this rfl (Nat.le_of_ble_eq_true rfl) (nd_flS q485 q486) rfl ?_
  refine nd_iconst (v := 1) dX12_unpack_6 (by decide) ?_
  refine nd_isub dX12_unpack_7 ?_
  replace hf := caE hf
  obtain ⟨v2, h1, e_h1, hf⟩ := hf
  refine nd_Vi [] (tX4_takeNumber l w hfl F d k_p0 e_h1) rfl dX12_unpack_8 mw_X4_takeNumber (Or.inl q870) k_p0 rfl q871 q872 (by omega) (by omega) (Nat.le_of_ble_eq_true rfl) ?_
  refine nd_istore_n [(2, vi v2), (0, vr (some this)), (1, vr (some p0))] dX12_unpack_11 rfl (Nat.le_of_ble_eq_true rfl) rfl ?_
  refine nd_iconst (v := 0) dX12_unpack_12 (by decide) ?_
  refine nd_istore_n [(3, vi 0), (2, vi v2), (0, vr (some this)), (1, vr (some p0))] dX12_unpack_13 rfl (Nat.le_of_ble_eq_true rfl) rfl ?_
  exact nd_loc [2, 3, 1, 0] rfl (tX12_unpack_14 l w hfl F d R_unpack hR_unpack r F _ _ _ _ k_this k_p0 _ hf)
def fX12_write (F d : Nat) (R_write : Nat → Nat → Nat → Int32 → Hp → Option (Hp)) (this : Nat) (p0 : Nat) (p1 : Nat) (p2 : Int32) (h : Hp) : Option (Hp) :=
  nn (gP h 1000 this) fun a2 => (
  ck (inb (gI h 1701 p0) (nd_Ln a2)) (
  bn (gR h a2 (Int32.toNatClampNeg (gI h 1701 p0))) fun o5 => (
  bn (gP h 1706 p0) fun o7 => (
  nn o5 fun a8 => (
  nn o7 fun a9 => (
  cv (R_write a8 a9 p1 (-1) h) fun h10 => (
  some h10)))))))
set_option maxHeartbeats 4000000 in
theorem tX12_write (l : Launch) (w : Wd) (hfl : l.stackTraces = false) (F d : Nat) (R_write : Nat → Nat → Nat → Int32 → Hp → Option (Hp)) (hR_write : ∀ {b : Nat} {p0 : Nat} {p1 : Nat} {p2 : Int32} (k_b : [6, 7, 8, 9, 11, 12].contains (nd_Kd b) = true) (k_p0 : nd_Kd p0 = 13) (k_p1 : nd_Kd p1 = 4) {h : Hp} {r : Hp}, R_write b p0 p1 p2 h = some r → nc_write l w b (1 + 8 * d) (30 + 400 * d) [vr (some b), vr (some p0), vr (some p1), vi p2] h (.inl none, r)) {this : Nat} {p0 : Nat} {p1 : Nat} {p2 : Int32} (k_this : nd_Kd this = 8) (k_p0 : nd_Kd p0 = 13) (k_p1 : nd_Kd p1 = 4) {h : Hp} {r : Hp} (hf : fX12_write F d R_write this p0 p1 p2 h = some r) : nd_C l w yX12_write cX12_write 4 none (2 + 8 * d) (54 + 400 * d) [vr (some this), vr (some p0), vr (some p1), vi p2] h (.inl none, r) := by
  refine nd_start (as := [vr (some this), vr (some p0), vr (some p1), vi p2]) hfl (by decide) (Nat.le_of_ble_eq_true rfl) ?_
  unfold fX12_write at hf
  refine nd_eqL (L' := [(0, vr (some this)), (1, vr (some p0)), (2, vr (some p1)), (3, vi p2)]) rfl ?_
  refine nd_aload_n (j := 0) dX12_write_0 rfl rfl ?_
  refine nd_getP (k := 0) dX12_write_1 k_this rfl (Nat.le_of_ble_eq_true rfl) (nd_flS q480 q481) rfl (fun ok1 => ?_)
  replace hf := nnE hf
  obtain ⟨a2, e_a2, hf⟩ := hf
  refine nd_topr e_a2.symm ?_
  have k_a2 : nd_Kd a2 = 24 := nd_c1 (ok1 a2 e_a2)
  refine nd_aload_n (j := 1) dX12_write_4 rfl rfl ?_
  refine nd_getI (k := 1) dX12_write_5 k_p0 rfl (Nat.le_of_ble_eq_true rfl) (nd_flN q912) rfl ?_
  replace hf := ckE hf
  obtain ⟨c3, hf⟩ := hf
  refine nd_aald (t := 4) (C := "NotationDesk$Type") dX12_write_8 k_a2 (by decide) (fun _ => rfl) c3 (fun ok4 => ?_)
  replace hf := bnE hf
  obtain ⟨o5, e_o5, hf⟩ := hf
  refine nd_topr e_o5 ?_
  have ok_o5 : ∀ b, o5 = some b → [6, 7, 8, 9, 11, 12].contains (nd_Kd b) = true := fun b q => ok4 b (e_o5 ▸ q)
  refine nd_aload_n (j := 1) dX12_write_9 rfl rfl ?_
  refine nd_getP (k := 6) dX12_write_10 k_p0 rfl (Nat.le_of_ble_eq_true rfl) (nd_flN q926) rfl (fun ok6 => ?_)
  replace hf := bnE hf
  obtain ⟨o7, e_o7, hf⟩ := hf
  refine nd_topr e_o7 ?_
  have ok_o7 : ∀ b, o7 = some b → [13].contains (nd_Kd b) = true := fun b q => ok6 b (e_o7 ▸ q)
  refine nd_aload_n (j := 2) dX12_write_13 rfl rfl ?_
  refine nd_iconst (v := (-1)) dX12_write_14 (by decide) ?_
  replace hf := nnE hf
  obtain ⟨a8, e_a8, hf⟩ := hf
  have k_a8 : [6, 7, 8, 9, 11, 12].contains (nd_Kd a8) = true := ok_o5 a8 e_a8
  subst e_a8
  replace hf := nnE hf
  obtain ⟨a9, e_a9, hf⟩ := hf
  have k_a9 : nd_Kd a9 = 13 := nd_c1 (ok_o7 a9 e_a9)
  subst e_a9
  replace hf := cvE hf
  obtain ⟨h10, e_h10, hf⟩ := hf
  refine nd_v_write [] (hR_write k_a8 k_a9 k_p1 e_h10) rfl dX12_write_15 q1119 k_a8 (by omega) (by omega) (Nat.le_of_ble_eq_true rfl) ?_
  cases hf
  exact nd_vret dX12_write_18
def fX2_init (F d : Nat) (this : Nat) (h : Hp) : Option (Hp) :=
  bn 201 fun n3 => (
  ck (freA h n3 21 150) (
  bn (nw h n3 150) fun h2 => (
  bn (sP h2 200 this (some n3)) fun h4 => (
  bn 202 fun n7 => (
  ck (freA h4 n7 24 26) (
  bn (nw h4 n7 26) fun h6 => (
  bn (sP h6 204 this (some n7)) fun h8 => (
  bn 203 fun n11 => (
  ck (freA h8 n11 25 150) (
  bn (nw h8 n11 150) fun h10 => (
  bn (sP h10 205 this (some n11)) fun h12 => (
  bn 204 fun n15 => (
  ck (freA h12 n15 26 150) (
  bn (nw h12 n15 150) fun h14 => (
  bn (sP h14 206 this (some n15)) fun h16 => (
  bn 205 fun n19 => (
  ck (freA h16 n19 27 150) (
  bn (nw h16 n19 150) fun h18 => (
  bn (sP h18 207 this (some n19)) fun h20 => (
  bn 206 fun n23 => (
  ck (freA h20 n23 28 150) (
  bn (nw h20 n23 150) fun h22 => (
  bn (sP h22 208 this (some n23)) fun h24 => (
  bn 207 fun n27 => (
  ck (freA h24 n27 29 150) (
  bn (nw h24 n27 150) fun h26 => (
  bn (sP h26 209 this (some n27)) fun h28 => (
  bn 208 fun n31 => (
  ck (freA h28 n31 30 150) (
  bn (nw h28 n31 150) fun h30 => (
  bn (sP h30 210 this (some n31)) fun h32 => (
  bn 209 fun n35 => (
  ck (freA h32 n35 20 50) (
  bn (nw h32 n35 50) fun h34 => (
  bn (sP h34 211 this (some n35)) fun h36 => (
  some h36))))))))))))))))))))))))))))))))))))
set_option maxHeartbeats 4000000 in
theorem tX2_init (l : Launch) (w : Wd) (hfl : l.stackTraces = false) (F d : Nat) {this : Nat} (k_this : nd_Kd this = 1) {h : Hp} {r : Hp} (hf : fX2_init F d this h = some r) : nd_C l w yX2_init cX2_init 1 none 1 40 [vr (some this)] h (.inl none, r) := by
  refine nd_start (as := [vr (some this)]) hfl (by decide) (Nat.le_of_ble_eq_true rfl) ?_
  unfold fX2_init at hf
  refine nd_eqL (L' := [(0, vr (some this))]) rfl ?_
  refine nd_aload_n (j := 0) dX2_init_0 rfl rfl ?_
  refine nd_obj dX2_init_1 q126 q119 q120 (Nat.le_of_ble_eq_true rfl) (Nat.le_of_ble_eq_true rfl) ?_
  refine nd_aload_n (j := 0) dX2_init_4 rfl rfl ?_
  refine nd_sipush (v := 150) dX2_init_5 (by decide) ?_
  replace hf := bnE hf
  obtain ⟨n3, e_n3, hf⟩ := hf
  replace hf := ckE hf
  obtain ⟨c1, hf⟩ := hf
  refine nd_newC (n := n3) (z := 150) dX2_init_8 (by decide +kernel) (by decide) (Nat.le_of_ble_eq_true rfl) c1 ?_
  replace hf := bnE hf
  obtain ⟨h2, e_h2, hf⟩ := hf
  refine nd_hp e_h2 ?_
  have k_n3 : nd_Kd n3 = 21 := (freAE c1).2.1
  refine nd_putF (k := 0) (f := 200) dX2_init_10 k_this rfl (Nat.le_of_ble_eq_true rfl) q141 rfl rfl rfl rfl rfl (fun b e => by cases e; rw [k_n3]; rfl) ?_
  replace hf := bnE hf
  obtain ⟨h4, e_h4, hf⟩ := hf
  refine nd_hp e_h4 ?_
  refine nd_aload_n (j := 0) dX2_init_13 rfl rfl ?_
  refine nd_bipush (v := 26) dX2_init_14 (by decide) ?_
  replace hf := bnE hf
  obtain ⟨n7, e_n7, hf⟩ := hf
  replace hf := ckE hf
  obtain ⟨c5, hf⟩ := hf
  refine nd_newR (n := n7) (z := 26) (t := 4) (ka := 24) dX2_init_16 q127 q128 (by decide) rfl (fun _ => rfl) (by decide +kernel) (by decide) (Nat.le_of_ble_eq_true rfl) c5 ?_
  replace hf := bnE hf
  obtain ⟨h6, e_h6, hf⟩ := hf
  refine nd_hp e_h6 ?_
  have k_n7 : nd_Kd n7 = 24 := (freAE c5).2.1
  refine nd_putF (k := 4) (f := 204) dX2_init_19 k_this rfl (Nat.le_of_ble_eq_true rfl) q148 rfl rfl rfl rfl rfl (fun b e => by cases e; rw [k_n7]; rfl) ?_
  replace hf := bnE hf
  obtain ⟨h8, e_h8, hf⟩ := hf
  refine nd_hp e_h8 ?_
  refine nd_aload_n (j := 0) dX2_init_22 rfl rfl ?_
  refine nd_sipush (v := 150) dX2_init_23 (by decide) ?_
  replace hf := bnE hf
  obtain ⟨n11, e_n11, hf⟩ := hf
  replace hf := ckE hf
  obtain ⟨c9, hf⟩ := hf
  refine nd_newR (n := n11) (z := 150) (t := 5) (ka := 25) dX2_init_26 q129 q130 (by decide) rfl (fun _ => rfl) (by decide +kernel) (by decide) (Nat.le_of_ble_eq_true rfl) c9 ?_
  replace hf := bnE hf
  obtain ⟨h10, e_h10, hf⟩ := hf
  refine nd_hp e_h10 ?_
  have k_n11 : nd_Kd n11 = 25 := (freAE c9).2.1
  refine nd_putF (k := 5) (f := 205) dX2_init_29 k_this rfl (Nat.le_of_ble_eq_true rfl) q150 rfl rfl rfl rfl rfl (fun b e => by cases e; rw [k_n11]; rfl) ?_
  replace hf := bnE hf
  obtain ⟨h12, e_h12, hf⟩ := hf
  refine nd_hp e_h12 ?_
  refine nd_aload_n (j := 0) dX2_init_32 rfl rfl ?_
  refine nd_sipush (v := 150) dX2_init_33 (by decide) ?_
  replace hf := bnE hf
  obtain ⟨n15, e_n15, hf⟩ := hf
  replace hf := ckE hf
  obtain ⟨c13, hf⟩ := hf
  refine nd_newR (n := n15) (z := 150) (t := 6) (ka := 26) dX2_init_36 q131 q132 (by decide) rfl (fun _ => rfl) (by decide +kernel) (by decide) (Nat.le_of_ble_eq_true rfl) c13 ?_
  replace hf := bnE hf
  obtain ⟨h14, e_h14, hf⟩ := hf
  refine nd_hp e_h14 ?_
  have k_n15 : nd_Kd n15 = 26 := (freAE c13).2.1
  refine nd_putF (k := 6) (f := 206) dX2_init_39 k_this rfl (Nat.le_of_ble_eq_true rfl) q151 rfl rfl rfl rfl rfl (fun b e => by cases e; rw [k_n15]; rfl) ?_
  replace hf := bnE hf
  obtain ⟨h16, e_h16, hf⟩ := hf
  refine nd_hp e_h16 ?_
  refine nd_aload_n (j := 0) dX2_init_42 rfl rfl ?_
  refine nd_sipush (v := 150) dX2_init_43 (by decide) ?_
  replace hf := bnE hf
  obtain ⟨n19, e_n19, hf⟩ := hf
  replace hf := ckE hf
  obtain ⟨c17, hf⟩ := hf
  refine nd_newR (n := n19) (z := 150) (t := 7) (ka := 27) dX2_init_46 q133 q134 (by decide) rfl (fun _ => rfl) (by decide +kernel) (by decide) (Nat.le_of_ble_eq_true rfl) c17 ?_
  replace hf := bnE hf
  obtain ⟨h18, e_h18, hf⟩ := hf
  refine nd_hp e_h18 ?_
  have k_n19 : nd_Kd n19 = 27 := (freAE c17).2.1
  refine nd_putF (k := 7) (f := 207) dX2_init_49 k_this rfl (Nat.le_of_ble_eq_true rfl) q152 rfl rfl rfl rfl rfl (fun b e => by cases e; rw [k_n19]; rfl) ?_
  replace hf := bnE hf
  obtain ⟨h20, e_h20, hf⟩ := hf
  refine nd_hp e_h20 ?_
  refine nd_aload_n (j := 0) dX2_init_52 rfl rfl ?_
  refine nd_sipush (v := 150) dX2_init_53 (by decide) ?_
  replace hf := bnE hf
  obtain ⟨n23, e_n23, hf⟩ := hf
  replace hf := ckE hf
  obtain ⟨c21, hf⟩ := hf
  refine nd_newR (n := n23) (z := 150) (t := 8) (ka := 28) dX2_init_56 q135 q136 (by decide) rfl (fun _ => rfl) (by decide +kernel) (by decide) (Nat.le_of_ble_eq_true rfl) c21 ?_
  replace hf := bnE hf
  obtain ⟨h22, e_h22, hf⟩ := hf
  refine nd_hp e_h22 ?_
  have k_n23 : nd_Kd n23 = 28 := (freAE c21).2.1
  refine nd_putF (k := 8) (f := 208) dX2_init_59 k_this rfl (Nat.le_of_ble_eq_true rfl) q153 rfl rfl rfl rfl rfl (fun b e => by cases e; rw [k_n23]; rfl) ?_
  replace hf := bnE hf
  obtain ⟨h24, e_h24, hf⟩ := hf
  refine nd_hp e_h24 ?_
  refine nd_aload_n (j := 0) dX2_init_62 rfl rfl ?_
  refine nd_sipush (v := 150) dX2_init_63 (by decide) ?_
  replace hf := bnE hf
  obtain ⟨n27, e_n27, hf⟩ := hf
  replace hf := ckE hf
  obtain ⟨c25, hf⟩ := hf
  refine nd_newR (n := n27) (z := 150) (t := 9) (ka := 29) dX2_init_66 q137 q138 (by decide) rfl (fun _ => rfl) (by decide +kernel) (by decide) (Nat.le_of_ble_eq_true rfl) c25 ?_
  replace hf := bnE hf
  obtain ⟨h26, e_h26, hf⟩ := hf
  refine nd_hp e_h26 ?_
  have k_n27 : nd_Kd n27 = 29 := (freAE c25).2.1
  refine nd_putF (k := 9) (f := 209) dX2_init_69 k_this rfl (Nat.le_of_ble_eq_true rfl) q154 rfl rfl rfl rfl rfl (fun b e => by cases e; rw [k_n27]; rfl) ?_
  replace hf := bnE hf
  obtain ⟨h28, e_h28, hf⟩ := hf
  refine nd_hp e_h28 ?_
  refine nd_aload_n (j := 0) dX2_init_72 rfl rfl ?_
  refine nd_sipush (v := 150) dX2_init_73 (by decide) ?_
  replace hf := bnE hf
  obtain ⟨n31, e_n31, hf⟩ := hf
  replace hf := ckE hf
  obtain ⟨c29, hf⟩ := hf
  refine nd_newR (n := n31) (z := 150) (t := 10) (ka := 30) dX2_init_76 q139 q140 (by decide) rfl (fun _ => rfl) (by decide +kernel) (by decide) (Nat.le_of_ble_eq_true rfl) c29 ?_
  replace hf := bnE hf
  obtain ⟨h30, e_h30, hf⟩ := hf
  refine nd_hp e_h30 ?_
  have k_n31 : nd_Kd n31 = 30 := (freAE c29).2.1
  refine nd_putF (k := 10) (f := 210) dX2_init_79 k_this rfl (Nat.le_of_ble_eq_true rfl) q155 rfl rfl rfl rfl rfl (fun b e => by cases e; rw [k_n31]; rfl) ?_
  replace hf := bnE hf
  obtain ⟨h32, e_h32, hf⟩ := hf
  refine nd_hp e_h32 ?_
  refine nd_aload_n (j := 0) dX2_init_82 rfl rfl ?_
  refine nd_bipush (v := 50) dX2_init_83 (by decide) ?_
  replace hf := bnE hf
  obtain ⟨n35, e_n35, hf⟩ := hf
  replace hf := ckE hf
  obtain ⟨c33, hf⟩ := hf
  refine nd_newI (n := n35) (z := 50) dX2_init_85 (by decide +kernel) (by decide) (Nat.le_of_ble_eq_true rfl) c33 ?_
  replace hf := bnE hf
  obtain ⟨h34, e_h34, hf⟩ := hf
  refine nd_hp e_h34 ?_
  have k_n35 : nd_Kd n35 = 20 := (freAE c33).2.1
  refine nd_putF (k := 11) (f := 211) dX2_init_87 k_this rfl (Nat.le_of_ble_eq_true rfl) q156 rfl rfl rfl rfl rfl (fun b e => by cases e; rw [k_n35]; rfl) ?_
  replace hf := bnE hf
  obtain ⟨h36, e_h36, hf⟩ := hf
  refine nd_hp e_h36 ?_
  cases hf
  exact nd_vret dX2_init_90
def fX2_look (F d : Nat) (this : Nat) (h : Hp) : Option (Int32 × Hp) :=
  if (gI h 201 this) ≤ (gI h 202 this) then
  (some (0, h))
  else
  (nn (gP h 200 this) fun a3 => (
  ck (inb (gI h 202 this) (nd_Ln a3)) (
  some ((gA h a3 (Int32.toNatClampNeg (gI h 202 this))), h))))
set_option maxHeartbeats 4000000 in
theorem tX2_look (l : Launch) (w : Wd) (hfl : l.stackTraces = false) (F d : Nat) {this : Nat} (k_this : nd_Kd this = 1) {h : Hp} {r : Int32 × Hp} (hf : fX2_look F d this h = some r) : nd_C l w yX2_look cX2_look 1 (some .int) 0 0 [vr (some this)] h (.inl (some (vi r.1)), r.2) := by
  refine nd_start (as := [vr (some this)]) hfl (by decide) (Nat.le_of_ble_eq_true rfl) ?_
  unfold fX2_look at hf
  refine nd_eqL (L' := [(0, vr (some this))]) rfl ?_
  refine nd_aload_n (j := 0) dX2_look_0 rfl rfl ?_
  refine nd_getI (k := 2) dX2_look_1 k_this rfl (Nat.le_of_ble_eq_true rfl) (nd_flO q145) rfl ?_
  refine nd_aload_n (j := 0) dX2_look_4 rfl rfl ?_
  refine nd_getI (k := 1) dX2_look_5 k_this rfl (Nat.le_of_ble_eq_true rfl) (nd_flO q143) rfl ?_
  refine nd_icmp_ge (tgt := 23) dX2_look_8 (by decide) (fun c1 => ?_) (fun c1 => ?_)
  · replace hf := ifp c1 hf
    refine nd_iconst (v := 0) dX2_look_23 (by decide) ?_
    cases hf
    exact nd_iret (v := 0) dX2_look_24
  · replace hf := ifn c1 hf
    refine nd_aload_n (j := 0) dX2_look_11 rfl rfl ?_
    refine nd_getP (k := 0) dX2_look_12 k_this rfl (Nat.le_of_ble_eq_true rfl) (nd_flO q141) rfl (fun ok2 => ?_)
    replace hf := nnE hf
    obtain ⟨a3, e_a3, hf⟩ := hf
    refine nd_topr e_a3.symm ?_
    have k_a3 : nd_Kd a3 = 21 := nd_c1 (ok2 a3 e_a3)
    refine nd_aload_n (j := 0) dX2_look_15 rfl rfl ?_
    refine nd_getI (k := 2) dX2_look_16 k_this rfl (Nat.le_of_ble_eq_true rfl) (nd_flO q145) rfl ?_
    replace hf := ckE hf
    obtain ⟨c4, hf⟩ := hf
    refine nd_cald dX2_look_19 k_a3 c4 ?_
    refine nd_goto (tgt := 24) dX2_look_20 (by decide) ?_
    cases hf
    exact nd_iret (v := (gA h a3 (Int32.toNatClampNeg (gI h 202 this)))) dX2_look_24
def fX2_wrong (F d : Nat) (this : Nat) (p0 : Int32) (p1 : Int32) (h : Hp) : Option (Int32 × Hp) :=
  if (gI h 203 this) = 0 then
  (bn (sI h 203 this (p0 + (16 * p1))) fun h2 => (
  some (0, h2)))
  else
  (some (0, h))
set_option maxHeartbeats 4000000 in
theorem tX2_wrong (l : Launch) (w : Wd) (hfl : l.stackTraces = false) (F d : Nat) {this : Nat} {p0 : Int32} {p1 : Int32} (k_this : nd_Kd this = 1) {h : Hp} {r : Int32 × Hp} (hf : fX2_wrong F d this p0 p1 h = some r) : nd_C l w yX2_wrong cX2_wrong 3 (some .boolean) 0 0 [vr (some this), vi p0, vi p1] h (.inl (some (vi r.1)), r.2) := by
  refine nd_start (as := [vr (some this), vi p0, vi p1]) hfl (by decide) (Nat.le_of_ble_eq_true rfl) ?_
  unfold fX2_wrong at hf
  refine nd_eqL (L' := [(0, vr (some this)), (1, vi p0), (2, vi p1)]) rfl ?_
  refine nd_aload_n (j := 0) dX2_wrong_0 rfl rfl ?_
  refine nd_getI (k := 3) dX2_wrong_1 k_this rfl (Nat.le_of_ble_eq_true rfl) (nd_flO q146) rfl ?_
  refine nd_if_ne (tgt := 17) dX2_wrong_4 (by decide) (fun c1 => ?_) (fun c1 => ?_)
  · replace hf := ifn c1 hf
    refine nd_iconst (v := 0) dX2_wrong_17 (by decide) ?_
    cases hf
    exact nd_zret (v := 0) (by decide) dX2_wrong_18
  · replace hf := ifp c1 hf
    refine nd_aload_n (j := 0) dX2_wrong_7 rfl rfl ?_
    refine nd_iload_n (j := 1) dX2_wrong_8 rfl rfl ?_
    refine nd_bipush (v := 16) dX2_wrong_9 (by decide) ?_
    refine nd_iload_n (j := 2) dX2_wrong_11 rfl rfl ?_
    refine nd_imul dX2_wrong_12 ?_
    refine nd_iadd dX2_wrong_13 ?_
    refine nd_putN (k := 3) dX2_wrong_14 k_this rfl (Nat.le_of_ble_eq_true rfl) (nd_flO q146) rfl rfl rfl ?_
    replace hf := bnE hf
    obtain ⟨h2, e_h2, hf⟩ := hf
    refine nd_hp e_h2 ?_
    refine nd_iconst (v := 0) dX2_wrong_17 (by decide) ?_
    cases hf
    exact nd_zret (v := 0) (by decide) dX2_wrong_18
def fX2_another (F d : Nat) (this : Nat) (p0 : Int32) (h : Hp) : Option (Int32 × Hp) :=
  ca (fX2_look F d this h) fun v2 h1 => (
  if v2 = 44 then
  (if p0 < 6 then
  (some (1, h1))
  else
  (ca (fX2_wrong F d this 7 (gI h1 202 this) h1) fun v6 h5 => (
  if v6 = 0 then
  (some (0, h5))
  else
  (some (1, h5)))))
  else
  (some (0, h1)))
set_option maxHeartbeats 4000000 in
theorem tX2_another (l : Launch) (w : Wd) (hfl : l.stackTraces = false) (F d : Nat) {this : Nat} {p0 : Int32} (k_this : nd_Kd this = 1) {h : Hp} {r : Int32 × Hp} (hf : fX2_another F d this p0 h = some r) : nd_C l w yX2_another cX2_another 2 (some .boolean) 1 22 [vr (some this), vi p0] h (.inl (some (vi r.1)), r.2) := by
  refine nd_start (as := [vr (some this), vi p0]) hfl (by decide) (Nat.le_of_ble_eq_true rfl) ?_
  unfold fX2_another at hf
  refine nd_eqL (L' := [(0, vr (some this)), (1, vi p0)]) rfl ?_
  refine nd_aload_n (j := 0) dX2_another_0 rfl rfl ?_
  replace hf := caE hf
  obtain ⟨v2, h1, e_h1, hf⟩ := hf
  refine nd_Vi [] (tX2_look l w hfl F d k_this e_h1) rfl dX2_another_1 mw_X2_look (Or.inl q353) k_this rfl q355 qs2 (by omega) (by omega) (Nat.le_of_ble_eq_true rfl) ?_
  refine nd_bipush (v := 44) dX2_another_4 (by decide) ?_
  refine nd_icmp_ne (tgt := 32) dX2_another_6 (by decide) (fun c3 => ?_) (fun c3 => ?_)
  · replace hf := ifn c3 hf
    refine nd_iconst (v := 0) dX2_another_32 (by decide) ?_
    cases hf
    exact nd_zret (v := 0) (by decide) dX2_another_33
  · replace hf := ifp c3 hf
    refine nd_iload_n (j := 1) dX2_another_9 rfl rfl ?_
    refine nd_bipush (v := 6) dX2_another_10 (by decide) ?_
    refine nd_icmp_lt (tgt := 28) dX2_another_12 (by decide) (fun c4 => ?_) (fun c4 => ?_)
    · replace hf := ifp c4 hf
      refine nd_iconst (v := 1) dX2_another_28 (by decide) ?_
      refine nd_goto (tgt := 33) dX2_another_29 (by decide) ?_
      cases hf
      exact nd_zret (v := 1) (by decide) dX2_another_33
    · replace hf := ifn c4 hf
      refine nd_aload_n (j := 0) dX2_another_15 rfl rfl ?_
      refine nd_bipush (v := 7) dX2_another_16 (by decide) ?_
      refine nd_aload_n (j := 0) dX2_another_18 rfl rfl ?_
      refine nd_getI (k := 2) dX2_another_19 k_this rfl (Nat.le_of_ble_eq_true rfl) (nd_flO q145) rfl ?_
      replace hf := caE hf
      obtain ⟨v6, h5, e_h5, hf⟩ := hf
      refine nd_Vi [] (tX2_wrong l w hfl F d k_this e_h5) rfl dX2_another_22 mw_X2_wrong (Or.inl q357) k_this rfl q359 qs3 (by omega) (by omega) (Nat.le_of_ble_eq_true rfl) ?_
      refine nd_if_eq (tgt := 32) dX2_another_25 (by decide) (fun c7 => ?_) (fun c7 => ?_)
      · replace hf := ifp c7 hf
        refine nd_iconst (v := 0) dX2_another_32 (by decide) ?_
        cases hf
        exact nd_zret (v := 0) (by decide) dX2_another_33
      · replace hf := ifn c7 hf
        refine nd_iconst (v := 1) dX2_another_28 (by decide) ?_
        refine nd_goto (tgt := 33) dX2_another_29 (by decide) ?_
        cases hf
        exact nd_zret (v := 1) (by decide) dX2_another_33
def fX2_expect (F d : Nat) (this : Nat) (p0 : Int32) (h : Hp) : Option (Int32 × Hp) :=
  ca (fX2_look F d this h) fun v2 h1 => (
  if v2 = p0 then
  (bn (sI h1 202 this ((gI h1 202 this) + 1)) fun h4 => (
  some (1, h4)))
  else
  (ca (fX2_wrong F d this 1 (gI h1 202 this) h1) fun v6 h5 => (
  ck (isB v6) (
  some (v6, h5)))))
set_option maxHeartbeats 4000000 in
theorem tX2_expect (l : Launch) (w : Wd) (hfl : l.stackTraces = false) (F d : Nat) {this : Nat} {p0 : Int32} (k_this : nd_Kd this = 1) {h : Hp} {r : Int32 × Hp} (hf : fX2_expect F d this p0 h = some r) : nd_C l w yX2_expect cX2_expect 2 (some .boolean) 1 22 [vr (some this), vi p0] h (.inl (some (vi r.1)), r.2) := by
  refine nd_start (as := [vr (some this), vi p0]) hfl (by decide) (Nat.le_of_ble_eq_true rfl) ?_
  unfold fX2_expect at hf
  refine nd_eqL (L' := [(0, vr (some this)), (1, vi p0)]) rfl ?_
  refine nd_aload_n (j := 0) dX2_expect_0 rfl rfl ?_
  replace hf := caE hf
  obtain ⟨v2, h1, e_h1, hf⟩ := hf
  refine nd_Vi [] (tX2_look l w hfl F d k_this e_h1) rfl dX2_expect_1 mw_X2_look (Or.inl q353) k_this rfl q355 qs2 (by omega) (by omega) (Nat.le_of_ble_eq_true rfl) ?_
  refine nd_iload_n (j := 1) dX2_expect_4 rfl rfl ?_
  refine nd_icmp_eq (tgt := 18) dX2_expect_5 (by decide) (fun c3 => ?_) (fun c3 => ?_)
  · replace hf := ifp c3 hf
    refine nd_aload_n (j := 0) dX2_expect_18 rfl rfl ?_
    refine nd_dup dX2_expect_19 rfl ?_
    refine nd_getI (k := 2) dX2_expect_20 k_this rfl (Nat.le_of_ble_eq_true rfl) (nd_flO q145) rfl ?_
    refine nd_iconst (v := 1) dX2_expect_23 (by decide) ?_
    refine nd_iadd dX2_expect_24 ?_
    refine nd_putN (k := 2) dX2_expect_25 k_this rfl (Nat.le_of_ble_eq_true rfl) (nd_flO q145) rfl rfl rfl ?_
    replace hf := bnE hf
    obtain ⟨h4, e_h4, hf⟩ := hf
    refine nd_hp e_h4 ?_
    refine nd_iconst (v := 1) dX2_expect_28 (by decide) ?_
    cases hf
    exact nd_zret (v := 1) (by decide) dX2_expect_29
  · replace hf := ifn c3 hf
    refine nd_aload_n (j := 0) dX2_expect_8 rfl rfl ?_
    refine nd_iconst (v := 1) dX2_expect_9 (by decide) ?_
    refine nd_aload_n (j := 0) dX2_expect_10 rfl rfl ?_
    refine nd_getI (k := 2) dX2_expect_11 k_this rfl (Nat.le_of_ble_eq_true rfl) (nd_flO q145) rfl ?_
    replace hf := caE hf
    obtain ⟨v6, h5, e_h5, hf⟩ := hf
    refine nd_Vi [] (tX2_wrong l w hfl F d k_this e_h5) rfl dX2_expect_14 mw_X2_wrong (Or.inl q357) k_this rfl q359 qs3 (by omega) (by omega) (Nat.le_of_ble_eq_true rfl) ?_
    replace hf := ckE hf
    obtain ⟨c7, hf⟩ := hf
    cases hf
    exact nd_zret (v := v6) c7 dX2_expect_17
def fX2_noType (F d : Nat) (this : Nat) (p0 : Int32) (p1 : Int32) (h : Hp) : Option (Option Nat × Hp) :=
  ca (fX2_wrong F d this p0 p1 h) fun v2 h1 => (
  some (none, h1))
set_option maxHeartbeats 4000000 in
theorem tX2_noType (l : Launch) (w : Wd) (hfl : l.stackTraces = false) (F d : Nat) {this : Nat} {p0 : Int32} {p1 : Int32} (k_this : nd_Kd this = 1) {h : Hp} {r : Option Nat × Hp} (hf : fX2_noType F d this p0 p1 h = some r) : nd_C l w yX2_noType cX2_noType 3 (some (.object "NotationDesk$Type")) 1 22 [vr (some this), vi p0, vi p1] h (.inl (some (vr r.1)), r.2) := by
  refine nd_start (as := [vr (some this), vi p0, vi p1]) hfl (by decide) (Nat.le_of_ble_eq_true rfl) ?_
  unfold fX2_noType at hf
  refine nd_eqL (L' := [(0, vr (some this)), (1, vi p0), (2, vi p1)]) rfl ?_
  refine nd_aload_n (j := 0) dX2_noType_0 rfl rfl ?_
  refine nd_iload_n (j := 1) dX2_noType_1 rfl rfl ?_
  refine nd_iload_n (j := 2) dX2_noType_2 rfl rfl ?_
  replace hf := caE hf
  obtain ⟨v2, h1, e_h1, hf⟩ := hf
  refine nd_Vi [] (tX2_wrong l w hfl F d k_this e_h1) rfl dX2_noType_3 mw_X2_wrong (Or.inl q357) k_this rfl q359 qs3 (by omega) (by omega) (Nat.le_of_ble_eq_true rfl) ?_
  refine nd_pop dX2_noType_6 rfl ?_
  refine nd_null dX2_noType_7 ?_
  cases hf
  exact nd_aret (fun b e => by cases e) dX2_noType_8
def fX10_put (F d : Nat) (this : Nat) (p0 : Nat) (h : Hp) : Option (Hp) :=
  nn (gP h 1000 this) fun a2 => (
  ck (inb (gI h 1001 this) (nd_Ln a2)) (
  bn (sR h a2 (Int32.toNatClampNeg (gI h 1001 this)) (some p0)) fun h4 => (
  bn (sI h4 1001 this ((gI h4 1001 this) + 1)) fun h5 => (
  some h5))))
set_option maxHeartbeats 4000000 in
theorem tX10_put (l : Launch) (w : Wd) (hfl : l.stackTraces = false) (F d : Nat) {this : Nat} {p0 : Nat} (k_this : [7, 8].contains (nd_Kd this) = true) (k_p0 : [6, 7, 8, 9, 11, 12].contains (nd_Kd p0) = true) {h : Hp} {r : Hp} (hf : fX10_put F d this p0 h = some r) : nd_C l w yX10_put cX10_put 2 none 0 0 [vr (some this), vr (some p0)] h (.inl none, r) := by
  refine nd_start (as := [vr (some this), vr (some p0)]) hfl (by decide) (Nat.le_of_ble_eq_true rfl) ?_
  unfold fX10_put at hf
  refine nd_eqL (L' := [(0, vr (some this)), (1, vr (some p0))]) rfl ?_
  refine nd_aload_n (j := 0) dX10_put_0 rfl rfl ?_
  refine nd_p2 k_this (fun k1_ kk_ => nd_getP (k := 0) dX10_put_1 k1_ rfl (Nat.le_of_ble_eq_true rfl) (nd_flO q479) rfl kk_) (fun k1_ kk_ => nd_getP (k := 0) dX10_put_1 k1_ rfl (Nat.le_of_ble_eq_true rfl) (nd_flO q479) rfl kk_) (fun ok1 => ?_)
  replace hf := nnE hf
  obtain ⟨a2, e_a2, hf⟩ := hf
  refine nd_topr e_a2.symm ?_
  have k_a2 : nd_Kd a2 = 24 := nd_c1 (ok1 a2 e_a2)
  refine nd_aload_n (j := 0) dX10_put_4 rfl rfl ?_
  refine nd_p2 k_this (fun k1_ kk_ => nd_getI (k := 1) dX10_put_5 k1_ rfl (Nat.le_of_ble_eq_true rfl) (nd_flO q484) rfl kk_) (fun k1_ kk_ => nd_getI (k := 1) dX10_put_5 k1_ rfl (Nat.le_of_ble_eq_true rfl) (nd_flO q484) rfl kk_) ?_
  refine nd_aload_n (j := 1) dX10_put_8 rfl rfl ?_
  replace hf := ckE hf
  obtain ⟨c3, hf⟩ := hf
  refine nd_aast (t := 4) (C := "NotationDesk$Type") dX10_put_9 k_a2 (by decide) (fun _ => rfl) c3 (fun b e => by cases e; exact nd_asT k_p0) ?_
  replace hf := bnE hf
  obtain ⟨h4, e_h4, hf⟩ := hf
  refine nd_hp e_h4 ?_
  refine nd_aload_n (j := 0) dX10_put_10 rfl rfl ?_
  refine nd_dup dX10_put_11 rfl ?_
  refine nd_p2 k_this (fun k1_ kk_ => nd_getI (k := 1) dX10_put_12 k1_ rfl (Nat.le_of_ble_eq_true rfl) (nd_flO q484) rfl kk_) (fun k1_ kk_ => nd_getI (k := 1) dX10_put_12 k1_ rfl (Nat.le_of_ble_eq_true rfl) (nd_flO q484) rfl kk_) ?_
  refine nd_iconst (v := 1) dX10_put_15 (by decide) ?_
  refine nd_iadd dX10_put_16 ?_
  refine nd_p2 k_this (fun k1_ kk_ => nd_putN (k := 1) dX10_put_17 k1_ rfl (Nat.le_of_ble_eq_true rfl) (nd_flO q484) rfl rfl rfl kk_) (fun k1_ kk_ => nd_putN (k := 1) dX10_put_17 k1_ rfl (Nat.le_of_ble_eq_true rfl) (nd_flO q484) rfl rfl rfl kk_) ?_
  replace hf := bnE hf
  obtain ⟨h5, e_h5, hf⟩ := hf
  refine nd_hp e_h5 ?_
  cases hf
  exact nd_vret dX10_put_20
def fX2_choiceOf_98 (F d : Nat) (R_typeOf : Nat → Int32 → Hp → Option (Option Nat × Hp)) (k_48 : Nat → Int32 → Nat → Int32 → Hp → Option (Option Nat × Hp)) (x0 : Nat) (x2 : Int32) (x3 : Nat) (x4 : Int32) (h : Hp) : Option (Option Nat × Hp) :=
  k_48 x0 x2 x3 x4 h
def fX2_choiceOf_48 (F d : Nat) (R_typeOf : Nat → Int32 → Hp → Option (Option Nat × Hp)) : Nat → Nat → Int32 → Nat → Int32 → Hp → Option (Option Nat × Hp)
  | 0, _, _, _, _, _ => none
  | n + 1, x0, x2, x3, x4, h =>
    if x4 = 0 then
    (if 0 < (gI h 203 x0) then
    (some (none, h))
    else
    (ca (fX2_expect F d x0 125 h) fun v4 h3 => (
    if v4 = 0 then
    (some (none, h3))
    else
    (ca (fX12_isDistinct F d x3 h3) fun v7 h6 => (
    if v7 = 0 then
    (ca (fX2_noType F d x0 6 ((gI h6 202 x0) - 1) h6) fun v10 h9 => (
    some (v10, h9)))
    else
    (some ((some x3), h6)))))))
    else
    (ca (R_typeOf x0 x2 h) fun v13 h12 => (
    oc v13
    (some (none, h12))
    (fun a15 =>
    cv (fX10_put F d x3 a15 h12) fun h16 => (
    ca (fX2_another F d x0 (gI h16 1001 x3) h16) fun v19 h18 => (
    if v19 = 0 then
    (fX2_choiceOf_98 F d R_typeOf (fX2_choiceOf_48 F d R_typeOf n) x0 x2 x3 v19 h18)
    else
    (bn (sI h18 202 x0 ((gI h18 202 x0) + 1)) fun h21 => (
    fX2_choiceOf_98 F d R_typeOf (fX2_choiceOf_48 F d R_typeOf n) x0 x2 x3 v19 h21)))))))
def fX2_choiceOf_22 (F d : Nat) (R_typeOf : Nat → Int32 → Hp → Option (Option Nat × Hp)) (x0 : Nat) (x1 : Int32) (x2 : Int32) (h : Hp) : Option (Option Nat × Hp) :=
  nn (gP h 209 x0) fun a2 => (
  ck (inb x1 (nd_Ln a2)) (
  bn (gR h a2 (Int32.toNatClampNeg x1)) fun o5 => (
  nn o5 fun a6 => (
  bn (sI h 1001 a6 0) fun h7 => (
  ca (fX2_expect F d x0 123 h7) fun v9 h8 => (
  if v9 = 0 then
  (some (none, h8))
  else
  (fX2_choiceOf_48 F d R_typeOf F x0 x2 a6 1 h8)))))))
def fX2_choiceOf (F d : Nat) (R_typeOf : Nat → Int32 → Hp → Option (Option Nat × Hp)) (p0 : Nat) (p1 : Int32) (p2 : Int32) (h : Hp) : Option (Option Nat × Hp) :=
  nn (gP h 209 p0) fun a2 => (
  ck (inb p1 (nd_Ln a2)) (
  bn (gR h a2 (Int32.toNatClampNeg p1)) fun o5 => (
  oc o5
  (nn (gP h 209 p0) fun a8 => (
  bn (nd_tn 5 p1) fun n11 => (
  ck (fre h n11 8) (
  bn (nw h n11 2) fun h10 => (
  cv (fX12_init F d n11 h10) fun h12 => (
  ck (inb p1 (nd_Ln a8)) (
  bn (sR h12 a8 (Int32.toNatClampNeg p1) (some n11)) fun h15 => (
  fX2_choiceOf_22 F d R_typeOf p0 p1 p2 h15))))))))
  (fun a6 =>
  fX2_choiceOf_22 F d R_typeOf p0 p1 p2 h))))
set_option maxHeartbeats 4000000 in
theorem tX2_choiceOf_98 (l : Launch) (w : Wd) (hfl : l.stackTraces = false) (F d : Nat) (R_typeOf : Nat → Int32 → Hp → Option (Option Nat × Hp)) (hR_typeOf : ∀ {p0 : Nat} {p1 : Int32} (k_p0 : nd_Kd p0 = 1) {h : Hp} {r : Option Nat × Hp}, R_typeOf p0 p1 h = some r → nd_C l w yX2_typeOf cX2_typeOf 6 (some (.object "NotationDesk$Type")) (1 + 8 * d) (30 + 400 * d) [vr (some p0), vi p1] h (.inl (some (vr r.1)), r.2)) (r : Option Nat × Hp) (k_48 : Nat → Int32 → Nat → Int32 → Hp → Option (Option Nat × Hp)) (hk_48 : ∀ (x0 : Nat) (x2 : Int32) (x3 : Nat) (x4 : Int32) (k_x0 : nd_Kd x0 = 1) (k_x3 : nd_Kd x3 = 8) (h : Hp), k_48 x0 x2 x3 x4 h = some r → nd_V l w yX2_choiceOf cX2_choiceOf 6 (some (.object "NotationDesk$Type")) (4 + 8 * d) (100 + 400 * d) (.inl (some (vr r.1)), r.2) h 48 [(0, vr (some x0)), (2, vi x2), (3, vr (some x3)), (4, vi x4)] []) (x0 : Nat) (x2 : Int32) (x3 : Nat) (x4 : Int32) (k_x0 : nd_Kd x0 = 1) (k_x3 : nd_Kd x3 = 8) (h : Hp) (hf : fX2_choiceOf_98 F d R_typeOf k_48 x0 x2 x3 x4 h = some r) : nd_V l w yX2_choiceOf cX2_choiceOf 6 (some (.object "NotationDesk$Type")) (4 + 8 * d) (100 + 400 * d) (.inl (some (vr r.1)), r.2) h 98 [(0, vr (some x0)), (2, vi x2), (3, vr (some x3)), (4, vi x4)] [] := by
  unfold fX2_choiceOf_98 at hf
  refine nd_goto (tgt := 48) dX2_choiceOf_98 (by decide) ?_
  exact nd_loc [0, 1, 2, 3] rfl (hk_48 _ _ _ _ k_x0 k_x3 _ hf)
set_option maxHeartbeats 4000000 in
theorem tX2_choiceOf_48 (l : Launch) (w : Wd) (hfl : l.stackTraces = false) (F d : Nat) (R_typeOf : Nat → Int32 → Hp → Option (Option Nat × Hp)) (hR_typeOf : ∀ {p0 : Nat} {p1 : Int32} (k_p0 : nd_Kd p0 = 1) {h : Hp} {r : Option Nat × Hp}, R_typeOf p0 p1 h = some r → nd_C l w yX2_typeOf cX2_typeOf 6 (some (.object "NotationDesk$Type")) (1 + 8 * d) (30 + 400 * d) [vr (some p0), vi p1] h (.inl (some (vr r.1)), r.2)) (r : Option Nat × Hp) : ∀ (n : Nat) (x0 : Nat) (x2 : Int32) (x3 : Nat) (x4 : Int32) (k_x0 : nd_Kd x0 = 1) (k_x3 : nd_Kd x3 = 8) (h : Hp), fX2_choiceOf_48 F d R_typeOf n x0 x2 x3 x4 h = some r → nd_V l w yX2_choiceOf cX2_choiceOf 6 (some (.object "NotationDesk$Type")) (4 + 8 * d) (100 + 400 * d) (.inl (some (vr r.1)), r.2) h 48 [(0, vr (some x0)), (2, vi x2), (3, vr (some x3)), (4, vi x4)] [] := by
  intro n
  induction n with
  | zero => intro _ _ _ _ _ _ _ hf; cases hf
  | succ n ih =>
    intro x0 x2 x3 x4 k_x0 k_x3 h hf
    unfold fX2_choiceOf_48 at hf
    refine nd_iload (j := 3) dX2_choiceOf_48 rfl ?_
    refine nd_if_eq (tgt := 101) dX2_choiceOf_50 (by decide) (fun c1 => ?_) (fun c1 => ?_)
    · replace hf := ifp c1 hf
      refine nd_aload_n (j := 0) dX2_choiceOf_101 rfl rfl ?_
      refine nd_getI (k := 3) dX2_choiceOf_102 k_x0 rfl (Nat.le_of_ble_eq_true rfl) (nd_flO q146) rfl ?_
      refine nd_if_gt (tgt := 117) dX2_choiceOf_105 (by decide) (fun c2 => ?_) (fun c2 => ?_)
      · replace hf := ifp c2 hf
        refine nd_null dX2_choiceOf_117 ?_
        cases hf
        exact nd_aret (fun b e => by cases e) dX2_choiceOf_118
      · replace hf := ifn c2 hf
        refine nd_aload_n (j := 0) dX2_choiceOf_108 rfl rfl ?_
        refine nd_bipush (v := 125) dX2_choiceOf_109 (by decide) ?_
        replace hf := caE hf
        obtain ⟨v4, h3, e_h3, hf⟩ := hf
        refine nd_Vi [] (tX2_expect l w hfl F d k_x0 e_h3) rfl dX2_choiceOf_111 mw_X2_expect (Or.inl q361) k_x0 rfl q363 qs4 (by omega) (by omega) (Nat.le_of_ble_eq_true rfl) ?_
        refine nd_if_ne (tgt := 119) dX2_choiceOf_114 (by decide) (fun c5 => ?_) (fun c5 => ?_)
        · replace hf := ifn c5 hf
          refine nd_aload_n (j := 2) dX2_choiceOf_119 rfl rfl ?_
          replace hf := caE hf
          obtain ⟨v7, h6, e_h6, hf⟩ := hf
          refine nd_Vi [] (tX12_isDistinct l w hfl F d k_x3 e_h6) rfl dX2_choiceOf_120 mw_X12_isDistinct (Or.inl q576) k_x3 rfl q577 q578 (by omega) (by omega) (Nat.le_of_ble_eq_true rfl) ?_
          refine nd_if_eq (tgt := 130) dX2_choiceOf_123 (by decide) (fun c8 => ?_) (fun c8 => ?_)
          · replace hf := ifp c8 hf
            refine nd_aload_n (j := 0) dX2_choiceOf_130 rfl rfl ?_
            refine nd_bipush (v := 6) dX2_choiceOf_131 (by decide) ?_
            refine nd_aload_n (j := 0) dX2_choiceOf_133 rfl rfl ?_
            refine nd_getI (k := 2) dX2_choiceOf_134 k_x0 rfl (Nat.le_of_ble_eq_true rfl) (nd_flO q145) rfl ?_
            refine nd_iconst (v := 1) dX2_choiceOf_137 (by decide) ?_
            refine nd_isub dX2_choiceOf_138 ?_
            replace hf := caE hf
            obtain ⟨v10, h9, e_h9, hf⟩ := hf
            refine nd_Vr [] (tX2_noType l w hfl F d k_x0 e_h9) rfl dX2_choiceOf_139 mw_X2_noType (Or.inl q382) k_x0 rfl q384 qs7 (by omega) (by omega) (Nat.le_of_ble_eq_true rfl) (fun ok11 => ?_)
            have ok_v10 : ∀ b, v10 = some b → [6, 7, 8, 9, 11, 12].contains (nd_Kd b) = true := fun b q => okT99 (ok11 b q)
            cases hf
            exact nd_aret (fun b e => okT99' (ok_v10 b e)) dX2_choiceOf_142
          · replace hf := ifn c8 hf
            refine nd_aload_n (j := 2) dX2_choiceOf_126 rfl rfl ?_
            refine nd_goto (tgt := 142) dX2_choiceOf_127 (by decide) ?_
            cases hf
            exact nd_aret (fun b e => by cases e; exact okT99' (by rw [k_x3]; rfl)) dX2_choiceOf_142
        · replace hf := ifp c5 hf
          refine nd_null dX2_choiceOf_117 ?_
          cases hf
          exact nd_aret (fun b e => by cases e) dX2_choiceOf_118
    · replace hf := ifn c1 hf
      refine nd_aload_n (j := 0) dX2_choiceOf_53 rfl rfl ?_
      refine nd_iload_n (j := 1) dX2_choiceOf_54 rfl rfl ?_
      replace hf := caE hf
      obtain ⟨v13, h12, e_h12, hf⟩ := hf
      refine nd_Sr [] (hR_typeOf k_x0 e_h12) rfl dX2_choiceOf_55 mw_X2_typeOf (Or.inl q365) q366 (by omega) (by omega) (Nat.le_of_ble_eq_true rfl) (fun ok14 => ?_)
      have ok_v13 : ∀ b, v13 = some b → [6, 7, 8, 9, 11, 12].contains (nd_Kd b) = true := fun b q => okT99 (ok14 b q)
      refine nd_astore [(5, vr v13), (0, vr (some x0)), (2, vi x2), (3, vr (some x3)), (4, vi x4)] dX2_choiceOf_58 (Nat.le_of_ble_eq_true rfl) rfl ?_
      refine nd_aload (j := 0) dX2_choiceOf_60 rfl ?_
      refine nd_ifnonnull (tgt := 67) dX2_choiceOf_62 (by decide) (fun e_a15 => ?_) (fun a15 e_a15 => ?_)
      · replace hf := ocN e_a15 hf
        subst e_a15
        refine nd_null dX2_choiceOf_65 ?_
        cases hf
        exact nd_aret (fun b e => by cases e) dX2_choiceOf_66
      · replace hf := ocS e_a15 hf
        have k_a15 : [6, 7, 8, 9, 11, 12].contains (nd_Kd a15) = true := ok_v13 a15 e_a15
        subst e_a15
        refine nd_aload_n (j := 3) dX2_choiceOf_67 rfl rfl ?_
        refine nd_aload (j := 0) dX2_choiceOf_68 rfl ?_
        replace hf := cvE hf
        obtain ⟨h16, e_h16, hf⟩ := hf
        refine nd_Uv [] (tX10_put l w hfl F d (by rw [k_x3]; rfl) k_a15 e_h16) rfl dX2_choiceOf_70 mw_X10_put q573 k_x3 rfl q574 (Or.inl q528) q530 q575 (by decide) mw_X10_put.2.2.2.2 (by omega) (by omega) (Nat.le_of_ble_eq_true rfl) ?_
        refine nd_aload_n (j := 1) dX2_choiceOf_73 rfl rfl ?_
        refine nd_aload_n (j := 3) dX2_choiceOf_74 rfl rfl ?_
        refine nd_getI (k := 1) dX2_choiceOf_75 k_x3 rfl (Nat.le_of_ble_eq_true rfl) (nd_flS q490 q486) rfl ?_
        replace hf := caE hf
        obtain ⟨v19, h18, e_h18, hf⟩ := hf
        refine nd_Vi [] (tX2_another l w hfl F d k_x0 e_h18) rfl dX2_choiceOf_78 mw_X2_another (Or.inl q532) k_x0 rfl q534 qs14 (by omega) (by omega) (Nat.le_of_ble_eq_true rfl) ?_
        refine nd_istore [(4, vi v19), (5, vr (some a15)), (0, vr (some x0)), (2, vi x2), (3, vr (some x3))] dX2_choiceOf_81 (Nat.le_of_ble_eq_true rfl) rfl ?_
        refine nd_iload (j := 0) dX2_choiceOf_83 rfl ?_
        refine nd_if_eq (tgt := 98) dX2_choiceOf_85 (by decide) (fun c20 => ?_) (fun c20 => ?_)
        · replace hf := ifp c20 hf
          exact nd_loc [2, 3, 4, 0] rfl (tX2_choiceOf_98 l w hfl F d R_typeOf hR_typeOf r (fX2_choiceOf_48 F d R_typeOf n) ih _ _ _ _ k_x0 k_x3 _ hf)
        · replace hf := ifn c20 hf
          refine nd_aload_n (j := 2) dX2_choiceOf_88 rfl rfl ?_
          refine nd_dup dX2_choiceOf_89 rfl ?_
          refine nd_getI (k := 2) dX2_choiceOf_90 k_x0 rfl (Nat.le_of_ble_eq_true rfl) (nd_flO q145) rfl ?_
          refine nd_iconst (v := 1) dX2_choiceOf_93 (by decide) ?_
          refine nd_iadd dX2_choiceOf_94 ?_
          refine nd_putN (k := 2) dX2_choiceOf_95 k_x0 rfl (Nat.le_of_ble_eq_true rfl) (nd_flO q145) rfl rfl rfl ?_
          replace hf := bnE hf
          obtain ⟨h21, e_h21, hf⟩ := hf
          refine nd_hp e_h21 ?_
          exact nd_loc [2, 3, 4, 0] rfl (tX2_choiceOf_98 l w hfl F d R_typeOf hR_typeOf r (fX2_choiceOf_48 F d R_typeOf n) ih _ _ _ _ k_x0 k_x3 _ hf)
set_option maxHeartbeats 4000000 in
theorem tX2_choiceOf_22 (l : Launch) (w : Wd) (hfl : l.stackTraces = false) (F d : Nat) (R_typeOf : Nat → Int32 → Hp → Option (Option Nat × Hp)) (hR_typeOf : ∀ {p0 : Nat} {p1 : Int32} (k_p0 : nd_Kd p0 = 1) {h : Hp} {r : Option Nat × Hp}, R_typeOf p0 p1 h = some r → nd_C l w yX2_typeOf cX2_typeOf 6 (some (.object "NotationDesk$Type")) (1 + 8 * d) (30 + 400 * d) [vr (some p0), vi p1] h (.inl (some (vr r.1)), r.2)) (r : Option Nat × Hp) (x0 : Nat) (x1 : Int32) (x2 : Int32) (k_x0 : nd_Kd x0 = 1) (h : Hp) (hf : fX2_choiceOf_22 F d R_typeOf x0 x1 x2 h = some r) : nd_V l w yX2_choiceOf cX2_choiceOf 6 (some (.object "NotationDesk$Type")) (4 + 8 * d) (100 + 400 * d) (.inl (some (vr r.1)), r.2) h 22 [(0, vr (some x0)), (1, vi x1), (2, vi x2)] [] := by
  unfold fX2_choiceOf_22 at hf
  refine nd_aload_n (j := 0) dX2_choiceOf_22 rfl rfl ?_
  refine nd_getP (k := 9) dX2_choiceOf_23 k_x0 rfl (Nat.le_of_ble_eq_true rfl) (nd_flO q154) rfl (fun ok1 => ?_)
  replace hf := nnE hf
  obtain ⟨a2, e_a2, hf⟩ := hf
  refine nd_topr e_a2.symm ?_
  have k_a2 : nd_Kd a2 = 29 := nd_c1 (ok1 a2 e_a2)
  refine nd_iload_n (j := 1) dX2_choiceOf_26 rfl rfl ?_
  replace hf := ckE hf
  obtain ⟨c3, hf⟩ := hf
  refine nd_aald (t := 9) (C := "NotationDesk$Choice") dX2_choiceOf_27 k_a2 (by decide) (fun _ => rfl) c3 (fun ok4 => ?_)
  replace hf := bnE hf
  obtain ⟨o5, e_o5, hf⟩ := hf
  refine nd_topr e_o5 ?_
  have ok_o5 : ∀ b, o5 = some b → [8].contains (nd_Kd b) = true := fun b q => ok4 b (e_o5 ▸ q)
  refine nd_astore_n [(3, vr o5), (0, vr (some x0)), (1, vi x1), (2, vi x2)] dX2_choiceOf_28 rfl (Nat.le_of_ble_eq_true rfl) rfl ?_
  refine nd_aload_n (j := 0) dX2_choiceOf_29 rfl rfl ?_
  refine nd_iconst (v := 0) dX2_choiceOf_30 (by decide) ?_
  replace hf := nnE hf
  obtain ⟨a6, e_a6, hf⟩ := hf
  have k_a6 : nd_Kd a6 = 8 := nd_c1 (ok_o5 a6 e_a6)
  subst e_a6
  refine nd_putN (k := 1) dX2_choiceOf_31 k_a6 rfl (Nat.le_of_ble_eq_true rfl) (nd_flS q490 q486) rfl rfl rfl ?_
  replace hf := bnE hf
  obtain ⟨h7, e_h7, hf⟩ := hf
  refine nd_hp e_h7 ?_
  refine nd_aload_n (j := 1) dX2_choiceOf_34 rfl rfl ?_
  refine nd_bipush (v := 123) dX2_choiceOf_35 (by decide) ?_
  replace hf := caE hf
  obtain ⟨v9, h8, e_h8, hf⟩ := hf
  refine nd_Vi [] (tX2_expect l w hfl F d k_x0 e_h8) rfl dX2_choiceOf_37 mw_X2_expect (Or.inl q361) k_x0 rfl q363 qs4 (by omega) (by omega) (Nat.le_of_ble_eq_true rfl) ?_
  refine nd_if_ne (tgt := 45) dX2_choiceOf_40 (by decide) (fun c10 => ?_) (fun c10 => ?_)
  · replace hf := ifn c10 hf
    refine nd_iconst (v := 1) dX2_choiceOf_45 (by decide) ?_
    refine nd_istore [(4, vi 1), (3, vr (some a6)), (0, vr (some x0)), (1, vi x1), (2, vi x2)] dX2_choiceOf_46 (Nat.le_of_ble_eq_true rfl) rfl ?_
    exact nd_loc [2, 4, 1, 0] rfl (tX2_choiceOf_48 l w hfl F d R_typeOf hR_typeOf r F _ _ _ _ k_x0 k_a6 _ hf)
  · replace hf := ifp c10 hf
    refine nd_null dX2_choiceOf_43 ?_
    cases hf
    exact nd_aret (fun b e => by cases e) dX2_choiceOf_44
set_option maxHeartbeats 4000000 in
theorem tX2_choiceOf (l : Launch) (w : Wd) (hfl : l.stackTraces = false) (F d : Nat) (R_typeOf : Nat → Int32 → Hp → Option (Option Nat × Hp)) (hR_typeOf : ∀ {p0 : Nat} {p1 : Int32} (k_p0 : nd_Kd p0 = 1) {h : Hp} {r : Option Nat × Hp}, R_typeOf p0 p1 h = some r → nd_C l w yX2_typeOf cX2_typeOf 6 (some (.object "NotationDesk$Type")) (1 + 8 * d) (30 + 400 * d) [vr (some p0), vi p1] h (.inl (some (vr r.1)), r.2)) {p0 : Nat} {p1 : Int32} {p2 : Int32} (k_p0 : nd_Kd p0 = 1) {h : Hp} {r : Option Nat × Hp} (hf : fX2_choiceOf F d R_typeOf p0 p1 p2 h = some r) : nd_C l w yX2_choiceOf cX2_choiceOf 6 (some (.object "NotationDesk$Type")) (4 + 8 * d) (100 + 400 * d) [vr (some p0), vi p1, vi p2] h (.inl (some (vr r.1)), r.2) := by
  refine nd_start (as := [vr (some p0), vi p1, vi p2]) hfl (by decide) (Nat.le_of_ble_eq_true rfl) ?_
  unfold fX2_choiceOf at hf
  refine nd_eqL (L' := [(0, vr (some p0)), (1, vi p1), (2, vi p2)]) rfl ?_
  refine nd_aload_n (j := 0) dX2_choiceOf_0 rfl rfl ?_
  refine nd_getP (k := 9) dX2_choiceOf_1 k_p0 rfl (Nat.le_of_ble_eq_true rfl) (nd_flO q154) rfl (fun ok1 => ?_)
  replace hf := nnE hf
  obtain ⟨a2, e_a2, hf⟩ := hf
  refine nd_topr e_a2.symm ?_
  have k_a2 : nd_Kd a2 = 29 := nd_c1 (ok1 a2 e_a2)
  refine nd_iload_n (j := 1) dX2_choiceOf_4 rfl rfl ?_
  replace hf := ckE hf
  obtain ⟨c3, hf⟩ := hf
  refine nd_aald (t := 9) (C := "NotationDesk$Choice") dX2_choiceOf_5 k_a2 (by decide) (fun _ => rfl) c3 (fun ok4 => ?_)
  replace hf := bnE hf
  obtain ⟨o5, e_o5, hf⟩ := hf
  refine nd_topr e_o5 ?_
  have ok_o5 : ∀ b, o5 = some b → [8].contains (nd_Kd b) = true := fun b q => ok4 b (e_o5 ▸ q)
  refine nd_ifnonnull (tgt := 22) dX2_choiceOf_6 (by decide) (fun e_a6 => ?_) (fun a6 e_a6 => ?_)
  · replace hf := ocN e_a6 hf
    subst e_a6
    refine nd_aload_n (j := 0) dX2_choiceOf_9 rfl rfl ?_
    refine nd_getP (k := 9) dX2_choiceOf_10 k_p0 rfl (Nat.le_of_ble_eq_true rfl) (nd_flO q154) rfl (fun ok7 => ?_)
    replace hf := nnE hf
    obtain ⟨a8, e_a8, hf⟩ := hf
    refine nd_topr e_a8.symm ?_
    have k_a8 : nd_Kd a8 = 29 := nd_c1 (ok7 a8 e_a8)
    refine nd_iload_n (j := 1) dX2_choiceOf_13 rfl rfl ?_
    replace hf := bnE hf
    obtain ⟨n11, e_n11, hf⟩ := hf
    replace hf := ckE hf
    obtain ⟨c9, hf⟩ := hf
    refine nd_newO (ci := 8) (n := n11) dX2_choiceOf_14 rfl q137 q565 q97 c9 ?_
    replace hf := bnE hf
    obtain ⟨h10, e_h10, hf⟩ := hf
    refine nd_hp e_h10 ?_
    have k_n11 : nd_Kd n11 = 8 := (freE c9).2
    refine nd_dup dX2_choiceOf_17 rfl ?_
    replace hf := cvE hf
    obtain ⟨h12, e_h12, hf⟩ := hf
    refine nd_Iv [vr (some n11), vi p1, vr (some a8)] (tX12_init l w hfl F d k_n11 e_h12) rfl dX2_choiceOf_18 mw_X12_init (Or.inr ⟨_, q566⟩) q567 rfl (by omega) (by omega) (Nat.le_of_ble_eq_true rfl) ?_
    replace hf := ckE hf
    obtain ⟨c14, hf⟩ := hf
    refine nd_aast (t := 9) (C := "NotationDesk$Choice") dX2_choiceOf_21 k_a8 (by decide) (fun _ => rfl) c14 (fun b e => by cases e; exact nd_asX9 k_n11) ?_
    replace hf := bnE hf
    obtain ⟨h15, e_h15, hf⟩ := hf
    refine nd_hp e_h15 ?_
    exact nd_loc [0, 1, 2] rfl (tX2_choiceOf_22 l w hfl F d R_typeOf hR_typeOf r _ _ _ k_p0 _ hf)
  · replace hf := ocS e_a6 hf
    have k_a6 : nd_Kd a6 = 8 := nd_c1 (ok_o5 a6 e_a6)
    subst e_a6
    exact nd_loc [0, 1, 2] rfl (tX2_choiceOf_22 l w hfl F d R_typeOf hR_typeOf r _ _ _ k_p0 _ hf)
def fX1_isDigit (F d : Nat) (p0 : Int32) (h : Hp) : Option (Int32 × Hp) :=
  if p0 < 48 then
  (some (0, h))
  else
  (if 57 < p0 then
  (some (0, h))
  else
  (some (1, h)))
set_option maxHeartbeats 4000000 in
theorem tX1_isDigit (l : Launch) (w : Wd) (hfl : l.stackTraces = false) (F d : Nat) {p0 : Int32}  {h : Hp} {r : Int32 × Hp} (hf : fX1_isDigit F d p0 h = some r) : nd_C l w yX1_isDigit cX1_isDigit 1 (some .boolean) 0 0 [vi p0] h (.inl (some (vi r.1)), r.2) := by
  refine nd_start (as := [vi p0]) hfl (by decide) (Nat.le_of_ble_eq_true rfl) ?_
  unfold fX1_isDigit at hf
  refine nd_eqL (L' := [(0, vi p0)]) rfl ?_
  refine nd_iload_n (j := 0) dX1_isDigit_0 rfl rfl ?_
  refine nd_bipush (v := 48) dX1_isDigit_1 (by decide) ?_
  refine nd_icmp_lt (tgt := 16) dX1_isDigit_3 (by decide) (fun c1 => ?_) (fun c1 => ?_)
  · replace hf := ifp c1 hf
    refine nd_iconst (v := 0) dX1_isDigit_16 (by decide) ?_
    cases hf
    exact nd_zret (v := 0) (by decide) dX1_isDigit_17
  · replace hf := ifn c1 hf
    refine nd_iload_n (j := 0) dX1_isDigit_6 rfl rfl ?_
    refine nd_bipush (v := 57) dX1_isDigit_7 (by decide) ?_
    refine nd_icmp_gt (tgt := 16) dX1_isDigit_9 (by decide) (fun c2 => ?_) (fun c2 => ?_)
    · replace hf := ifp c2 hf
      refine nd_iconst (v := 0) dX1_isDigit_16 (by decide) ?_
      cases hf
      exact nd_zret (v := 0) (by decide) dX1_isDigit_17
    · replace hf := ifn c2 hf
      refine nd_iconst (v := 1) dX1_isDigit_12 (by decide) ?_
      refine nd_goto (tgt := 17) dX1_isDigit_13 (by decide) ?_
      cases hf
      exact nd_zret (v := 1) (by decide) dX1_isDigit_17
def fX2_number_108 (F d : Nat) (this : Nat) (s0 : Nat) (s1 : Int32) (h : Hp) : Option (Int32 × Hp) :=
  bn (sI h 213 s0 s1) fun h1 => (
  ca (fX2_look F d this h1) fun v3 h2 => (
  ca (fX1_isDigit F d v3 h2) fun v5 h4 => (
  if v5 = 0 then
  (some (1, h4))
  else
  (ca (fX2_wrong F d this 1 (gI h4 202 this) h4) fun v8 h7 => (
  if v8 = 0 then
  (some (0, h7))
  else
  (some (1, h7)))))))
def fX2_number_97 (F d : Nat) (this : Nat) (x1 : Int32) (x2 : Int32) (h : Hp) : Option (Int32 × Hp) :=
  if x1 = 0 then
  (fX2_number_108 F d this this x2 h)
  else
  (fX2_number_108 F d this this (-x2) h)
def fX2_number_53 (F d : Nat) : Nat → Nat → Int32 → Int32 → Int32 → Hp → Option (Int32 × Hp)
  | 0, _, _, _, _, _ => none
  | n + 1, this, x1, x2, x3, h =>
    if 5 ≤ x3 then
    (fX2_number_97 F d this x1 x2 h)
    else
    (ca (fX2_look F d this h) fun v3 h2 => (
    ca (fX1_isDigit F d v3 h2) fun v5 h4 => (
    if v5 = 0 then
    (fX2_number_97 F d this x1 x2 h4)
    else
    (ca (fX2_look F d this h4) fun v8 h7 => (
    bn (((10 * x2) + v8) - 48) fun v9 => (
    bn (sI h7 202 this ((gI h7 202 this) + 1)) fun h10 => (
    bn (x3 + 1) fun v11 => (
    fX2_number_53 F d n this x1 v9 v11 h10))))))))
def fX2_number_29 (F d : Nat) (this : Nat) (x1 : Int32) (h : Hp) : Option (Int32 × Hp) :=
  ca (fX2_look F d this h) fun v2 h1 => (
  ca (fX1_isDigit F d v2 h1) fun v4 h3 => (
  if v4 = 0 then
  (ca (fX2_wrong F d this 1 (gI h3 202 this) h3) fun v7 h6 => (
  ck (isB v7) (
  some (v7, h6))))
  else
  (fX2_number_53 F d F this x1 0 0 h3)))
def fX2_number_14 (F d : Nat) (this : Nat) (s0 : Int32) (h : Hp) : Option (Int32 × Hp) :=
  if s0 = 0 then
  (fX2_number_29 F d this s0 h)
  else
  (bn (sI h 202 this ((gI h 202 this) + 1)) fun h2 => (
  fX2_number_29 F d this s0 h2))
def fX2_number (F d : Nat) (this : Nat) (h : Hp) : Option (Int32 × Hp) :=
  ca (fX2_look F d this h) fun v2 h1 => (
  if v2 = 45 then
  (fX2_number_14 F d this 1 h1)
  else
  (fX2_number_14 F d this 0 h1))
set_option maxHeartbeats 4000000 in
theorem tX2_number_108 (l : Launch) (w : Wd) (hfl : l.stackTraces = false) (F d : Nat) (r : Int32 × Hp) (this : Nat) (s0 : Nat) (s1 : Int32) (k_this : nd_Kd this = 1) (k_s0 : nd_Kd s0 = 1) (h : Hp) (hf : fX2_number_108 F d this s0 s1 h = some r) : nd_V l w yX2_number cX2_number 4 (some .boolean) 1 22 (.inl (some (vi r.1)), r.2) h 108 [(0, vr (some this))] [vi s1, vr (some s0)] := by
  unfold fX2_number_108 at hf
  refine nd_putN (k := 13) dX2_number_108 k_s0 rfl (Nat.le_of_ble_eq_true rfl) (nd_flO q158) rfl rfl rfl ?_
  replace hf := bnE hf
  obtain ⟨h1, e_h1, hf⟩ := hf
  refine nd_hp e_h1 ?_
  refine nd_aload_n (j := 0) dX2_number_111 rfl rfl ?_
  replace hf := caE hf
  obtain ⟨v3, h2, e_h2, hf⟩ := hf
  refine nd_Vi [] (tX2_look l w hfl F d k_this e_h2) rfl dX2_number_112 mw_X2_look (Or.inl q353) k_this rfl q355 qs2 (by omega) (by omega) (Nat.le_of_ble_eq_true rfl) ?_
  replace hf := caE hf
  obtain ⟨v5, h4, e_h4, hf⟩ := hf
  refine nd_Si [] (tX1_isDigit l w hfl F d e_h4) rfl dX2_number_115 mw_X1_isDigit (Or.inr ⟨_, q372⟩) q373 (by omega) (by omega) (Nat.le_of_ble_eq_true rfl) ?_
  refine nd_if_eq (tgt := 133) dX2_number_118 (by decide) (fun c6 => ?_) (fun c6 => ?_)
  · replace hf := ifp c6 hf
    refine nd_iconst (v := 1) dX2_number_133 (by decide) ?_
    refine nd_goto (tgt := 138) dX2_number_134 (by decide) ?_
    cases hf
    exact nd_zret (v := 1) (by decide) dX2_number_138
  · replace hf := ifn c6 hf
    refine nd_aload_n (j := 0) dX2_number_121 rfl rfl ?_
    refine nd_iconst (v := 1) dX2_number_122 (by decide) ?_
    refine nd_aload_n (j := 0) dX2_number_123 rfl rfl ?_
    refine nd_getI (k := 2) dX2_number_124 k_this rfl (Nat.le_of_ble_eq_true rfl) (nd_flO q145) rfl ?_
    replace hf := caE hf
    obtain ⟨v8, h7, e_h7, hf⟩ := hf
    refine nd_Vi [] (tX2_wrong l w hfl F d k_this e_h7) rfl dX2_number_127 mw_X2_wrong (Or.inl q357) k_this rfl q359 qs3 (by omega) (by omega) (Nat.le_of_ble_eq_true rfl) ?_
    refine nd_if_eq (tgt := 137) dX2_number_130 (by decide) (fun c9 => ?_) (fun c9 => ?_)
    · replace hf := ifp c9 hf
      refine nd_iconst (v := 0) dX2_number_137 (by decide) ?_
      cases hf
      exact nd_zret (v := 0) (by decide) dX2_number_138
    · replace hf := ifn c9 hf
      refine nd_iconst (v := 1) dX2_number_133 (by decide) ?_
      refine nd_goto (tgt := 138) dX2_number_134 (by decide) ?_
      cases hf
      exact nd_zret (v := 1) (by decide) dX2_number_138
set_option maxHeartbeats 4000000 in
theorem tX2_number_97 (l : Launch) (w : Wd) (hfl : l.stackTraces = false) (F d : Nat) (r : Int32 × Hp) (this : Nat) (x1 : Int32) (x2 : Int32) (k_this : nd_Kd this = 1) (h : Hp) (hf : fX2_number_97 F d this x1 x2 h = some r) : nd_V l w yX2_number cX2_number 4 (some .boolean) 1 22 (.inl (some (vi r.1)), r.2) h 97 [(0, vr (some this)), (1, vi x1), (2, vi x2)] [] := by
  unfold fX2_number_97 at hf
  refine nd_aload_n (j := 0) dX2_number_97 rfl rfl ?_
  refine nd_iload_n (j := 1) dX2_number_98 rfl rfl ?_
  refine nd_if_eq (tgt := 107) dX2_number_99 (by decide) (fun c1 => ?_) (fun c1 => ?_)
  · replace hf := ifp c1 hf
    refine nd_iload_n (j := 2) dX2_number_107 rfl rfl ?_
    exact nd_loc [0] rfl (tX2_number_108 l w hfl F d r _ _ _ k_this k_this _ hf)
  · replace hf := ifn c1 hf
    refine nd_iload_n (j := 2) dX2_number_102 rfl rfl ?_
    refine nd_ineg dX2_number_103 ?_
    refine nd_goto (tgt := 108) dX2_number_104 (by decide) ?_
    exact nd_loc [0] rfl (tX2_number_108 l w hfl F d r _ _ _ k_this k_this _ hf)
set_option maxHeartbeats 4000000 in
theorem tX2_number_53 (l : Launch) (w : Wd) (hfl : l.stackTraces = false) (F d : Nat) (r : Int32 × Hp) : ∀ (n : Nat) (this : Nat) (x1 : Int32) (x2 : Int32) (x3 : Int32) (k_this : nd_Kd this = 1) (h : Hp), fX2_number_53 F d n this x1 x2 x3 h = some r → nd_V l w yX2_number cX2_number 4 (some .boolean) 1 22 (.inl (some (vi r.1)), r.2) h 53 [(0, vr (some this)), (1, vi x1), (2, vi x2), (3, vi x3)] [] := by
  intro n
  induction n with
  | zero => intro _ _ _ _ _ _ hf; cases hf
  | succ n ih =>
    intro this x1 x2 x3 k_this h hf
    unfold fX2_number_53 at hf
    refine nd_iload_n (j := 3) dX2_number_53 rfl rfl ?_
    refine nd_iconst (v := 5) dX2_number_54 (by decide) ?_
    refine nd_icmp_ge (tgt := 97) dX2_number_55 (by decide) (fun c1 => ?_) (fun c1 => ?_)
    · replace hf := ifp c1 hf
      exact nd_loc [0, 1, 2] rfl (tX2_number_97 l w hfl F d r _ _ _ k_this _ hf)
    · replace hf := ifn c1 hf
      refine nd_aload_n (j := 0) dX2_number_58 rfl rfl ?_
      replace hf := caE hf
      obtain ⟨v3, h2, e_h2, hf⟩ := hf
      refine nd_Vi [] (tX2_look l w hfl F d k_this e_h2) rfl dX2_number_59 mw_X2_look (Or.inl q353) k_this rfl q355 qs2 (by omega) (by omega) (Nat.le_of_ble_eq_true rfl) ?_
      replace hf := caE hf
      obtain ⟨v5, h4, e_h4, hf⟩ := hf
      refine nd_Si [] (tX1_isDigit l w hfl F d e_h4) rfl dX2_number_62 mw_X1_isDigit (Or.inr ⟨_, q372⟩) q373 (by omega) (by omega) (Nat.le_of_ble_eq_true rfl) ?_
      refine nd_if_eq (tgt := 97) dX2_number_65 (by decide) (fun c6 => ?_) (fun c6 => ?_)
      · replace hf := ifp c6 hf
        exact nd_loc [0, 1, 2] rfl (tX2_number_97 l w hfl F d r _ _ _ k_this _ hf)
      · replace hf := ifn c6 hf
        refine nd_bipush (v := 10) dX2_number_68 (by decide) ?_
        refine nd_iload_n (j := 2) dX2_number_70 rfl rfl ?_
        refine nd_imul dX2_number_71 ?_
        refine nd_aload_n (j := 0) dX2_number_72 rfl rfl ?_
        replace hf := caE hf
        obtain ⟨v8, h7, e_h7, hf⟩ := hf
        refine nd_Vi [vi (10 * x2)] (tX2_look l w hfl F d k_this e_h7) rfl dX2_number_73 mw_X2_look (Or.inl q353) k_this rfl q355 qs2 (by omega) (by omega) (Nat.le_of_ble_eq_true rfl) ?_
        refine nd_iadd dX2_number_76 ?_
        refine nd_bipush (v := 48) dX2_number_77 (by decide) ?_
        refine nd_isub dX2_number_79 ?_
        replace hf := bnE hf
        obtain ⟨v9, e_v9, hf⟩ := hf
        refine nd_top e_v9 ?_
        refine nd_istore_n [(2, vi v9), (0, vr (some this)), (1, vi x1), (3, vi x3)] dX2_number_80 rfl (Nat.le_of_ble_eq_true rfl) rfl ?_
        refine nd_aload_n (j := 1) dX2_number_81 rfl rfl ?_
        refine nd_dup dX2_number_82 rfl ?_
        refine nd_getI (k := 2) dX2_number_83 k_this rfl (Nat.le_of_ble_eq_true rfl) (nd_flO q145) rfl ?_
        refine nd_iconst (v := 1) dX2_number_86 (by decide) ?_
        refine nd_iadd dX2_number_87 ?_
        refine nd_putN (k := 2) dX2_number_88 k_this rfl (Nat.le_of_ble_eq_true rfl) (nd_flO q145) rfl rfl rfl ?_
        replace hf := bnE hf
        obtain ⟨h10, e_h10, hf⟩ := hf
        refine nd_hp e_h10 ?_
        replace hf := bnE hf
        obtain ⟨v11, e_v11, hf⟩ := hf
        refine nd_iinc (v := v11) (j := 3) [(3, vi v11), (2, vi v9), (0, vr (some this)), (1, vi x1)] dX2_number_91 rfl (by rw [e_v11]; rfl) (Nat.le_of_ble_eq_true rfl) rfl ?_
        refine nd_goto (tgt := 53) dX2_number_94 (by decide) ?_
        exact nd_loc [2, 3, 1, 0] rfl (ih _ _ _ _ k_this _ hf)
set_option maxHeartbeats 4000000 in
theorem tX2_number_29 (l : Launch) (w : Wd) (hfl : l.stackTraces = false) (F d : Nat) (r : Int32 × Hp) (this : Nat) (x1 : Int32) (k_this : nd_Kd this = 1) (h : Hp) (hf : fX2_number_29 F d this x1 h = some r) : nd_V l w yX2_number cX2_number 4 (some .boolean) 1 22 (.inl (some (vi r.1)), r.2) h 29 [(0, vr (some this)), (1, vi x1)] [] := by
  unfold fX2_number_29 at hf
  refine nd_aload_n (j := 0) dX2_number_29 rfl rfl ?_
  replace hf := caE hf
  obtain ⟨v2, h1, e_h1, hf⟩ := hf
  refine nd_Vi [] (tX2_look l w hfl F d k_this e_h1) rfl dX2_number_30 mw_X2_look (Or.inl q353) k_this rfl q355 qs2 (by omega) (by omega) (Nat.le_of_ble_eq_true rfl) ?_
  replace hf := caE hf
  obtain ⟨v4, h3, e_h3, hf⟩ := hf
  refine nd_Si [] (tX1_isDigit l w hfl F d e_h3) rfl dX2_number_33 mw_X1_isDigit (Or.inr ⟨_, q372⟩) q373 (by omega) (by omega) (Nat.le_of_ble_eq_true rfl) ?_
  refine nd_if_ne (tgt := 49) dX2_number_36 (by decide) (fun c5 => ?_) (fun c5 => ?_)
  · replace hf := ifn c5 hf
    refine nd_iconst (v := 0) dX2_number_49 (by decide) ?_
    refine nd_istore_n [(2, vi 0), (0, vr (some this)), (1, vi x1)] dX2_number_50 rfl (Nat.le_of_ble_eq_true rfl) rfl ?_
    refine nd_iconst (v := 0) dX2_number_51 (by decide) ?_
    refine nd_istore_n [(3, vi 0), (2, vi 0), (0, vr (some this)), (1, vi x1)] dX2_number_52 rfl (Nat.le_of_ble_eq_true rfl) rfl ?_
    exact nd_loc [2, 3, 1, 0] rfl (tX2_number_53 l w hfl F d r F _ _ _ _ k_this _ hf)
  · replace hf := ifp c5 hf
    refine nd_aload_n (j := 0) dX2_number_39 rfl rfl ?_
    refine nd_iconst (v := 1) dX2_number_40 (by decide) ?_
    refine nd_aload_n (j := 0) dX2_number_41 rfl rfl ?_
    refine nd_getI (k := 2) dX2_number_42 k_this rfl (Nat.le_of_ble_eq_true rfl) (nd_flO q145) rfl ?_
    replace hf := caE hf
    obtain ⟨v7, h6, e_h6, hf⟩ := hf
    refine nd_Vi [] (tX2_wrong l w hfl F d k_this e_h6) rfl dX2_number_45 mw_X2_wrong (Or.inl q357) k_this rfl q359 qs3 (by omega) (by omega) (Nat.le_of_ble_eq_true rfl) ?_
    replace hf := ckE hf
    obtain ⟨c8, hf⟩ := hf
    cases hf
    exact nd_zret (v := v7) c8 dX2_number_48
set_option maxHeartbeats 4000000 in
theorem tX2_number_14 (l : Launch) (w : Wd) (hfl : l.stackTraces = false) (F d : Nat) (r : Int32 × Hp) (this : Nat) (s0 : Int32) (k_this : nd_Kd this = 1) (h : Hp) (hf : fX2_number_14 F d this s0 h = some r) : nd_V l w yX2_number cX2_number 4 (some .boolean) 1 22 (.inl (some (vi r.1)), r.2) h 14 [(0, vr (some this))] [vi s0] := by
  unfold fX2_number_14 at hf
  refine nd_istore_n [(1, vi s0), (0, vr (some this))] dX2_number_14 rfl (Nat.le_of_ble_eq_true rfl) rfl ?_
  refine nd_iload_n (j := 0) dX2_number_15 rfl rfl ?_
  refine nd_if_eq (tgt := 29) dX2_number_16 (by decide) (fun c1 => ?_) (fun c1 => ?_)
  · replace hf := ifp c1 hf
    exact nd_loc [1, 0] rfl (tX2_number_29 l w hfl F d r _ _ k_this _ hf)
  · replace hf := ifn c1 hf
    refine nd_aload_n (j := 1) dX2_number_19 rfl rfl ?_
    refine nd_dup dX2_number_20 rfl ?_
    refine nd_getI (k := 2) dX2_number_21 k_this rfl (Nat.le_of_ble_eq_true rfl) (nd_flO q145) rfl ?_
    refine nd_iconst (v := 1) dX2_number_24 (by decide) ?_
    refine nd_iadd dX2_number_25 ?_
    refine nd_putN (k := 2) dX2_number_26 k_this rfl (Nat.le_of_ble_eq_true rfl) (nd_flO q145) rfl rfl rfl ?_
    replace hf := bnE hf
    obtain ⟨h2, e_h2, hf⟩ := hf
    refine nd_hp e_h2 ?_
    exact nd_loc [1, 0] rfl (tX2_number_29 l w hfl F d r _ _ k_this _ hf)
set_option maxHeartbeats 4000000 in
theorem tX2_number (l : Launch) (w : Wd) (hfl : l.stackTraces = false) (F d : Nat) {this : Nat} (k_this : nd_Kd this = 1) {h : Hp} {r : Int32 × Hp} (hf : fX2_number F d this h = some r) : nd_C l w yX2_number cX2_number 4 (some .boolean) 1 22 [vr (some this)] h (.inl (some (vi r.1)), r.2) := by
  refine nd_start (as := [vr (some this)]) hfl (by decide) (Nat.le_of_ble_eq_true rfl) ?_
  unfold fX2_number at hf
  refine nd_eqL (L' := [(0, vr (some this))]) rfl ?_
  refine nd_aload_n (j := 0) dX2_number_0 rfl rfl ?_
  replace hf := caE hf
  obtain ⟨v2, h1, e_h1, hf⟩ := hf
  refine nd_Vi [] (tX2_look l w hfl F d k_this e_h1) rfl dX2_number_1 mw_X2_look (Or.inl q353) k_this rfl q355 qs2 (by omega) (by omega) (Nat.le_of_ble_eq_true rfl) ?_
  refine nd_bipush (v := 45) dX2_number_4 (by decide) ?_
  refine nd_icmp_ne (tgt := 13) dX2_number_6 (by decide) (fun c3 => ?_) (fun c3 => ?_)
  · replace hf := ifn c3 hf
    refine nd_iconst (v := 0) dX2_number_13 (by decide) ?_
    exact nd_loc [0] rfl (tX2_number_14 l w hfl F d r _ _ k_this _ hf)
  · replace hf := ifp c3 hf
    refine nd_iconst (v := 1) dX2_number_9 (by decide) ?_
    refine nd_goto (tgt := 14) dX2_number_10 (by decide) ?_
    exact nd_loc [0] rfl (tX2_number_14 l w hfl F d r _ _ k_this _ hf)
def fX2_bounds (F d : Nat) (this : Nat) (h : Hp) : Option (Int32 × Hp) :=
  bn (sI h 202 this ((gI h 202 this) + 1)) fun h1 => (
  ca (fX2_number F d this h1) fun v3 h2 => (
  if v3 = 0 then
  (some (0, h2))
  else
  (ca (fX2_expect F d this 44 h2) fun v6 h5 => (
  if v6 = 0 then
  (some (0, h5))
  else
  (bn (gI h5 213 this) fun v8 => (
  ca (fX2_number F d this h5) fun v10 h9 => (
  if v10 = 0 then
  (some (0, h9))
  else
  (bn (sI h9 214 this (gI h9 213 this)) fun h12 => (
  bn (sI h12 213 this v8) fun h13 => (
  ca (fX2_expect F d this 41 h13) fun v15 h14 => (
  ck (isB v15) (
  some (v15, h14)))))))))))))
set_option maxHeartbeats 4000000 in
theorem tX2_bounds (l : Launch) (w : Wd) (hfl : l.stackTraces = false) (F d : Nat) {this : Nat} (k_this : nd_Kd this = 1) {h : Hp} {r : Int32 × Hp} (hf : fX2_bounds F d this h = some r) : nd_C l w yX2_bounds cX2_bounds 2 (some .boolean) 2 45 [vr (some this)] h (.inl (some (vi r.1)), r.2) := by
  refine nd_start (as := [vr (some this)]) hfl (by decide) (Nat.le_of_ble_eq_true rfl) ?_
  unfold fX2_bounds at hf
  refine nd_eqL (L' := [(0, vr (some this))]) rfl ?_
  refine nd_aload_n (j := 0) dX2_bounds_0 rfl rfl ?_
  refine nd_dup dX2_bounds_1 rfl ?_
  refine nd_getI (k := 2) dX2_bounds_2 k_this rfl (Nat.le_of_ble_eq_true rfl) (nd_flO q145) rfl ?_
  refine nd_iconst (v := 1) dX2_bounds_5 (by decide) ?_
  refine nd_iadd dX2_bounds_6 ?_
  refine nd_putN (k := 2) dX2_bounds_7 k_this rfl (Nat.le_of_ble_eq_true rfl) (nd_flO q145) rfl rfl rfl ?_
  replace hf := bnE hf
  obtain ⟨h1, e_h1, hf⟩ := hf
  refine nd_hp e_h1 ?_
  refine nd_aload_n (j := 0) dX2_bounds_10 rfl rfl ?_
  replace hf := caE hf
  obtain ⟨v3, h2, e_h2, hf⟩ := hf
  refine nd_Vi [] (tX2_number l w hfl F d k_this e_h2) rfl dX2_bounds_11 mw_X2_number (Or.inl q458) k_this rfl q460 qs11 (by omega) (by omega) (Nat.le_of_ble_eq_true rfl) ?_
  refine nd_if_eq (tgt := 26) dX2_bounds_14 (by decide) (fun c4 => ?_) (fun c4 => ?_)
  · replace hf := ifp c4 hf
    refine nd_iconst (v := 0) dX2_bounds_26 (by decide) ?_
    cases hf
    exact nd_zret (v := 0) (by decide) dX2_bounds_27
  · replace hf := ifn c4 hf
    refine nd_aload_n (j := 0) dX2_bounds_17 rfl rfl ?_
    refine nd_bipush (v := 44) dX2_bounds_18 (by decide) ?_
    replace hf := caE hf
    obtain ⟨v6, h5, e_h5, hf⟩ := hf
    refine nd_Vi [] (tX2_expect l w hfl F d k_this e_h5) rfl dX2_bounds_20 mw_X2_expect (Or.inl q361) k_this rfl q363 qs4 (by omega) (by omega) (Nat.le_of_ble_eq_true rfl) ?_
    refine nd_if_ne (tgt := 28) dX2_bounds_23 (by decide) (fun c7 => ?_) (fun c7 => ?_)
    · replace hf := ifn c7 hf
      refine nd_aload_n (j := 0) dX2_bounds_28 rfl rfl ?_
      refine nd_getI (k := 13) dX2_bounds_29 k_this rfl (Nat.le_of_ble_eq_true rfl) (nd_flO q158) rfl ?_
      replace hf := bnE hf
      obtain ⟨v8, e_v8, hf⟩ := hf
      refine nd_top e_v8 ?_
      refine nd_istore_n [(1, vi v8), (0, vr (some this))] dX2_bounds_32 rfl (Nat.le_of_ble_eq_true rfl) rfl ?_
      refine nd_aload_n (j := 1) dX2_bounds_33 rfl rfl ?_
      replace hf := caE hf
      obtain ⟨v10, h9, e_h9, hf⟩ := hf
      refine nd_Vi [] (tX2_number l w hfl F d k_this e_h9) rfl dX2_bounds_34 mw_X2_number (Or.inl q458) k_this rfl q460 qs11 (by omega) (by omega) (Nat.le_of_ble_eq_true rfl) ?_
      refine nd_if_ne (tgt := 42) dX2_bounds_37 (by decide) (fun c11 => ?_) (fun c11 => ?_)
      · replace hf := ifn c11 hf
        refine nd_aload_n (j := 1) dX2_bounds_42 rfl rfl ?_
        refine nd_aload_n (j := 1) dX2_bounds_43 rfl rfl ?_
        refine nd_getI (k := 13) dX2_bounds_44 k_this rfl (Nat.le_of_ble_eq_true rfl) (nd_flO q158) rfl ?_
        refine nd_putN (k := 14) dX2_bounds_47 k_this rfl (Nat.le_of_ble_eq_true rfl) (nd_flO q159) rfl rfl rfl ?_
        replace hf := bnE hf
        obtain ⟨h12, e_h12, hf⟩ := hf
        refine nd_hp e_h12 ?_
        refine nd_aload_n (j := 1) dX2_bounds_50 rfl rfl ?_
        refine nd_iload_n (j := 0) dX2_bounds_51 rfl rfl ?_
        refine nd_putN (k := 13) dX2_bounds_52 k_this rfl (Nat.le_of_ble_eq_true rfl) (nd_flO q158) rfl rfl rfl ?_
        replace hf := bnE hf
        obtain ⟨h13, e_h13, hf⟩ := hf
        refine nd_hp e_h13 ?_
        refine nd_aload_n (j := 1) dX2_bounds_55 rfl rfl ?_
        refine nd_bipush (v := 41) dX2_bounds_56 (by decide) ?_
        replace hf := caE hf
        obtain ⟨v15, h14, e_h14, hf⟩ := hf
        refine nd_Vi [] (tX2_expect l w hfl F d k_this e_h14) rfl dX2_bounds_58 mw_X2_expect (Or.inl q361) k_this rfl q363 qs4 (by omega) (by omega) (Nat.le_of_ble_eq_true rfl) ?_
        replace hf := ckE hf
        obtain ⟨c16, hf⟩ := hf
        cases hf
        exact nd_zret (v := v15) c16 dX2_bounds_61
      · replace hf := ifp c11 hf
        refine nd_iconst (v := 0) dX2_bounds_40 (by decide) ?_
        cases hf
        exact nd_zret (v := 0) (by decide) dX2_bounds_41
    · replace hf := ifp c7 hf
      refine nd_iconst (v := 0) dX2_bounds_26 (by decide) ?_
      cases hf
      exact nd_zret (v := 0) (by decide) dX2_bounds_27
def fX8_init (F d : Nat) (this : Nat) (h : Hp) : Option (Hp) :=
  cv (fX7_init F d this h) fun h1 => (
  some h1)
set_option maxHeartbeats 4000000 in
theorem tX8_init (l : Launch) (w : Wd) (hfl : l.stackTraces = false) (F d : Nat) {this : Nat} (k_this : [6, 9].contains (nd_Kd this) = true) {h : Hp} {r : Hp} (hf : fX8_init F d this h = some r) : nd_C l w yX8_init cX8_init 1 none 2 60 [vr (some this)] h (.inl none, r) := by
  refine nd_start (as := [vr (some this)]) hfl (by decide) (Nat.le_of_ble_eq_true rfl) ?_
  unfold fX8_init at hf
  refine nd_eqL (L' := [(0, vr (some this))]) rfl ?_
  refine nd_aload_n (j := 0) dX8_init_0 rfl rfl ?_
  replace hf := cvE hf
  obtain ⟨h1, e_h1, hf⟩ := hf
  refine nd_Iv [] (tX7_init l w hfl F d (nd_p2 (P := True) k_this (fun e _ => by rw [e]; rfl) (fun e _ => by rw [e]; rfl) trivial) e_h1) rfl dX8_init_1 mw_X7_init (Or.inr ⟨_, q420⟩) q421 rfl (by omega) (by omega) (Nat.le_of_ble_eq_true rfl) ?_
  cases hf
  exact nd_vret dX8_init_4
def fX9_init (F d : Nat) (this : Nat) (h : Hp) : Option (Hp) :=
  cv (fX8_init F d this h) fun h1 => (
  some h1)
set_option maxHeartbeats 4000000 in
theorem tX9_init (l : Launch) (w : Wd) (hfl : l.stackTraces = false) (F d : Nat) {this : Nat} (k_this : nd_Kd this = 6) {h : Hp} {r : Hp} (hf : fX9_init F d this h = some r) : nd_C l w yX9_init cX9_init 1 none 3 80 [vr (some this)] h (.inl none, r) := by
  refine nd_start (as := [vr (some this)]) hfl (by decide) (Nat.le_of_ble_eq_true rfl) ?_
  unfold fX9_init at hf
  refine nd_eqL (L' := [(0, vr (some this))]) rfl ?_
  refine nd_aload_n (j := 0) dX9_init_0 rfl rfl ?_
  replace hf := cvE hf
  obtain ⟨h1, e_h1, hf⟩ := hf
  refine nd_Iv [] (tX8_init l w hfl F d (by rw [k_this]; rfl) e_h1) rfl dX9_init_1 mw_X8_init (Or.inr ⟨_, q417⟩) q418 rfl (by omega) (by omega) (Nat.le_of_ble_eq_true rfl) ?_
  cases hf
  exact nd_vret dX9_init_4
def fX2_numeric_22 (F d : Nat) (this : Nat) (x1 : Int32) (h : Hp) : Option (Option Nat × Hp) :=
  nn (gP h 205 this) fun a2 => (
  ck (inb x1 (nd_Ln a2)) (
  bn (gR h a2 (Int32.toNatClampNeg x1)) fun o5 => (
  some (o5, h))))
def fX2_numeric (F d : Nat) (this : Nat) (p0 : Int32) (h : Hp) : Option (Option Nat × Hp) :=
  nn (gP h 205 this) fun a2 => (
  ck (inb p0 (nd_Ln a2)) (
  bn (gR h a2 (Int32.toNatClampNeg p0)) fun o5 => (
  oc o5
  (nn (gP h 205 this) fun a8 => (
  bn (nd_tn 1 p0) fun n11 => (
  ck (fre h n11 6) (
  bn (nw h n11 5) fun h10 => (
  cv (fX9_init F d n11 h10) fun h12 => (
  ck (inb p0 (nd_Ln a8)) (
  bn (sR h12 a8 (Int32.toNatClampNeg p0) (some n11)) fun h15 => (
  fX2_numeric_22 F d this p0 h15))))))))
  (fun a6 =>
  fX2_numeric_22 F d this p0 h))))
set_option maxHeartbeats 4000000 in
theorem tX2_numeric_22 (l : Launch) (w : Wd) (hfl : l.stackTraces = false) (F d : Nat) (r : Option Nat × Hp) (this : Nat) (x1 : Int32) (k_this : nd_Kd this = 1) (h : Hp) (hf : fX2_numeric_22 F d this x1 h = some r) : nd_V l w yX2_numeric cX2_numeric 2 (some (.object "NotationDesk$Numeric")) 4 100 (.inl (some (vr r.1)), r.2) h 22 [(0, vr (some this)), (1, vi x1)] [] := by
  unfold fX2_numeric_22 at hf
  refine nd_aload_n (j := 0) dX2_numeric_22 rfl rfl ?_
  refine nd_getP (k := 5) dX2_numeric_23 k_this rfl (Nat.le_of_ble_eq_true rfl) (nd_flO q150) rfl (fun ok1 => ?_)
  replace hf := nnE hf
  obtain ⟨a2, e_a2, hf⟩ := hf
  refine nd_topr e_a2.symm ?_
  have k_a2 : nd_Kd a2 = 25 := nd_c1 (ok1 a2 e_a2)
  refine nd_iload_n (j := 1) dX2_numeric_26 rfl rfl ?_
  replace hf := ckE hf
  obtain ⟨c3, hf⟩ := hf
  refine nd_aald (t := 5) (C := "NotationDesk$Numeric") dX2_numeric_27 k_a2 (by decide) (fun _ => rfl) c3 (fun ok4 => ?_)
  replace hf := bnE hf
  obtain ⟨o5, e_o5, hf⟩ := hf
  refine nd_topr e_o5 ?_
  have ok_o5 : ∀ b, o5 = some b → [6].contains (nd_Kd b) = true := fun b q => ok4 b (e_o5 ▸ q)
  cases hf
  exact nd_aret (fun b e => okT6' (ok_o5 b e)) dX2_numeric_28
set_option maxHeartbeats 4000000 in
theorem tX2_numeric (l : Launch) (w : Wd) (hfl : l.stackTraces = false) (F d : Nat) {this : Nat} {p0 : Int32} (k_this : nd_Kd this = 1) {h : Hp} {r : Option Nat × Hp} (hf : fX2_numeric F d this p0 h = some r) : nd_C l w yX2_numeric cX2_numeric 2 (some (.object "NotationDesk$Numeric")) 4 100 [vr (some this), vi p0] h (.inl (some (vr r.1)), r.2) := by
  refine nd_start (as := [vr (some this), vi p0]) hfl (by decide) (Nat.le_of_ble_eq_true rfl) ?_
  unfold fX2_numeric at hf
  refine nd_eqL (L' := [(0, vr (some this)), (1, vi p0)]) rfl ?_
  refine nd_aload_n (j := 0) dX2_numeric_0 rfl rfl ?_
  refine nd_getP (k := 5) dX2_numeric_1 k_this rfl (Nat.le_of_ble_eq_true rfl) (nd_flO q150) rfl (fun ok1 => ?_)
  replace hf := nnE hf
  obtain ⟨a2, e_a2, hf⟩ := hf
  refine nd_topr e_a2.symm ?_
  have k_a2 : nd_Kd a2 = 25 := nd_c1 (ok1 a2 e_a2)
  refine nd_iload_n (j := 1) dX2_numeric_4 rfl rfl ?_
  replace hf := ckE hf
  obtain ⟨c3, hf⟩ := hf
  refine nd_aald (t := 5) (C := "NotationDesk$Numeric") dX2_numeric_5 k_a2 (by decide) (fun _ => rfl) c3 (fun ok4 => ?_)
  replace hf := bnE hf
  obtain ⟨o5, e_o5, hf⟩ := hf
  refine nd_topr e_o5 ?_
  have ok_o5 : ∀ b, o5 = some b → [6].contains (nd_Kd b) = true := fun b q => ok4 b (e_o5 ▸ q)
  refine nd_ifnonnull (tgt := 22) dX2_numeric_6 (by decide) (fun e_a6 => ?_) (fun a6 e_a6 => ?_)
  · replace hf := ocN e_a6 hf
    subst e_a6
    refine nd_aload_n (j := 0) dX2_numeric_9 rfl rfl ?_
    refine nd_getP (k := 5) dX2_numeric_10 k_this rfl (Nat.le_of_ble_eq_true rfl) (nd_flO q150) rfl (fun ok7 => ?_)
    replace hf := nnE hf
    obtain ⟨a8, e_a8, hf⟩ := hf
    refine nd_topr e_a8.symm ?_
    have k_a8 : nd_Kd a8 = 25 := nd_c1 (ok7 a8 e_a8)
    refine nd_iload_n (j := 1) dX2_numeric_13 rfl rfl ?_
    replace hf := bnE hf
    obtain ⟨n11, e_n11, hf⟩ := hf
    replace hf := ckE hf
    obtain ⟨c9, hf⟩ := hf
    refine nd_newO (ci := 6) (n := n11) dX2_numeric_14 rfl q129 q413 q94 c9 ?_
    replace hf := bnE hf
    obtain ⟨h10, e_h10, hf⟩ := hf
    refine nd_hp e_h10 ?_
    have k_n11 : nd_Kd n11 = 6 := (freE c9).2
    refine nd_dup dX2_numeric_17 rfl ?_
    replace hf := cvE hf
    obtain ⟨h12, e_h12, hf⟩ := hf
    refine nd_Iv [vr (some n11), vi p0, vr (some a8)] (tX9_init l w hfl F d k_n11 e_h12) rfl dX2_numeric_18 mw_X9_init (Or.inr ⟨_, q414⟩) q415 rfl (by omega) (by omega) (Nat.le_of_ble_eq_true rfl) ?_
    replace hf := ckE hf
    obtain ⟨c14, hf⟩ := hf
    refine nd_aast (t := 5) (C := "NotationDesk$Numeric") dX2_numeric_21 k_a8 (by decide) (fun _ => rfl) c14 (fun b e => by cases e; exact nd_asX5 k_n11) ?_
    replace hf := bnE hf
    obtain ⟨h15, e_h15, hf⟩ := hf
    refine nd_hp e_h15 ?_
    exact nd_loc [0, 1] rfl (tX2_numeric_22 l w hfl F d r _ _ k_this _ hf)
  · replace hf := ocS e_a6 hf
    have k_a6 : nd_Kd a6 = 6 := nd_c1 (ok_o5 a6 e_a6)
    subst e_a6
    exact nd_loc [0, 1] rfl (tX2_numeric_22 l w hfl F d r _ _ k_this _ hf)
def fX8_marked (F d : Nat) (this : Nat) (p0 : Int32) (h : Hp) : Option (Hp) :=
  bn (sI h 800 this p0) fun h1 => (
  some h1)
set_option maxHeartbeats 4000000 in
theorem tX8_marked (l : Launch) (w : Wd) (hfl : l.stackTraces = false) (F d : Nat) {this : Nat} {p0 : Int32} (k_this : [6, 9].contains (nd_Kd this) = true) {h : Hp} {r : Hp} (hf : fX8_marked F d this p0 h = some r) : nd_C l w yX8_marked cX8_marked 2 none 0 0 [vr (some this), vi p0] h (.inl none, r) := by
  refine nd_start (as := [vr (some this), vi p0]) hfl (by decide) (Nat.le_of_ble_eq_true rfl) ?_
  unfold fX8_marked at hf
  refine nd_eqL (L' := [(0, vr (some this)), (1, vi p0)]) rfl ?_
  refine nd_aload_n (j := 0) dX8_marked_0 rfl rfl ?_
  refine nd_iload_n (j := 1) dX8_marked_1 rfl rfl ?_
  refine nd_p2 k_this (fun k1_ kk_ => nd_putN (k := 0) dX8_marked_2 k1_ rfl (Nat.le_of_ble_eq_true rfl) (nd_flO q428) rfl rfl rfl kk_) (fun k1_ kk_ => nd_putN (k := 0) dX8_marked_2 k1_ rfl (Nat.le_of_ble_eq_true rfl) (nd_flO q428) rfl rfl rfl kk_) ?_
  replace hf := bnE hf
  obtain ⟨h1, e_h1, hf⟩ := hf
  refine nd_hp e_h1 ?_
  cases hf
  exact nd_vret dX8_marked_5
def fX9_become (F d : Nat) (this : Nat) (p0 : Int32) (p1 : Int32) (p2 : Int32) (p3 : Int32) (p4 : Int32) (h : Hp) : Option (Option Nat × Hp) :=
  bn (sI h 900 this p0) fun h1 => (
  cv (fX8_marked F d this p1 h1) fun h2 => (
  ck (isB p2) (
  bn (sI h2 901 this p2) fun h4 => (
  bn (sI h4 902 this p3) fun h6 => (
  bn (sI h6 903 this p4) fun h7 => (
  some ((some this), h7)))))))
set_option maxHeartbeats 4000000 in
theorem tX9_become (l : Launch) (w : Wd) (hfl : l.stackTraces = false) (F d : Nat) {this : Nat} {p0 : Int32} {p1 : Int32} {p2 : Int32} {p3 : Int32} {p4 : Int32} (k_this : nd_Kd this = 6) {h : Hp} {r : Option Nat × Hp} (hf : fX9_become F d this p0 p1 p2 p3 p4 h = some r) : nd_C l w yX9_become cX9_become 6 (some (.object "NotationDesk$Numeric")) 1 21 [vr (some this), vi p0, vi p1, vi p2, vi p3, vi p4] h (.inl (some (vr r.1)), r.2) := by
  refine nd_start (as := [vr (some this), vi p0, vi p1, vi p2, vi p3, vi p4]) hfl (by decide) (Nat.le_of_ble_eq_true rfl) ?_
  unfold fX9_become at hf
  refine nd_eqL (L' := [(0, vr (some this)), (1, vi p0), (2, vi p1), (3, vi p2), (4, vi p3), (5, vi p4)]) rfl ?_
  refine nd_aload_n (j := 0) dX9_become_0 rfl rfl ?_
  refine nd_iload_n (j := 1) dX9_become_1 rfl rfl ?_
  refine nd_putN (k := 1) dX9_become_2 k_this rfl (Nat.le_of_ble_eq_true rfl) (nd_flO q424) rfl rfl rfl ?_
  replace hf := bnE hf
  obtain ⟨h1, e_h1, hf⟩ := hf
  refine nd_hp e_h1 ?_
  refine nd_aload_n (j := 0) dX9_become_5 rfl rfl ?_
  refine nd_iload_n (j := 2) dX9_become_6 rfl rfl ?_
  replace hf := cvE hf
  obtain ⟨h2, e_h2, hf⟩ := hf
  refine nd_Uv [] (tX8_marked l w hfl F d (by rw [k_this]; rfl) e_h2) rfl dX9_become_7 mw_X8_marked q444 k_this rfl q445 (Or.inl q446) q448 q447 (by decide) mw_X8_marked.2.2.2.2 (by omega) (by omega) (Nat.le_of_ble_eq_true rfl) ?_
  refine nd_aload_n (j := 0) dX9_become_10 rfl rfl ?_
  refine nd_iload_n (j := 3) dX9_become_11 rfl rfl ?_
  replace hf := ckE hf
  obtain ⟨c5, hf⟩ := hf
  refine nd_putZ (k := 2) c5 dX9_become_12 k_this rfl (Nat.le_of_ble_eq_true rfl) (nd_flO q425) rfl rfl rfl ?_
  replace hf := bnE hf
  obtain ⟨h4, e_h4, hf⟩ := hf
  refine nd_hp e_h4 ?_
  refine nd_aload_n (j := 0) dX9_become_15 rfl rfl ?_
  refine nd_iload (j := 4) dX9_become_16 rfl ?_
  refine nd_putN (k := 3) dX9_become_18 k_this rfl (Nat.le_of_ble_eq_true rfl) (nd_flO q426) rfl rfl rfl ?_
  replace hf := bnE hf
  obtain ⟨h6, e_h6, hf⟩ := hf
  refine nd_hp e_h6 ?_
  refine nd_aload_n (j := 0) dX9_become_21 rfl rfl ?_
  refine nd_iload (j := 5) dX9_become_22 rfl ?_
  refine nd_putN (k := 4) dX9_become_24 k_this rfl (Nat.le_of_ble_eq_true rfl) (nd_flO q427) rfl rfl rfl ?_
  replace hf := bnE hf
  obtain ⟨h7, e_h7, hf⟩ := hf
  refine nd_hp e_h7 ?_
  refine nd_aload_n (j := 0) dX9_become_27 rfl rfl ?_
  cases hf
  exact nd_aret (fun b e => by cases e; exact okT6' (by rw [k_this]; rfl)) dX9_become_28
def fX2_integer_57 (F d : Nat) (this : Nat) (h : Hp) : Option (Option Nat × Hp) :=
  ca (fX2_noType F d this 4 ((gI h 202 this) - 1) h) fun v2 h1 => (
  some (v2, h1))
def fX2_integer (F d : Nat) (this : Nat) (p0 : Int32) (h : Hp) : Option (Option Nat × Hp) :=
  ca (fX2_look F d this h) fun v2 h1 => (
  if v2 = 40 then
  (ca (fX2_bounds F d this h1) fun v5 h4 => (
  if v5 = 0 then
  (some (none, h4))
  else
  (if (gI h4 214 this) < (gI h4 213 this) then
  (fX2_integer_57 F d this h4)
  else
  (if ((gI h4 214 this) - (gI h4 213 this)) ≤ 65535 then
  (ca (fX2_numeric F d this p0 h4) fun v10 h9 => (
  nn v10 fun a12 => (
  ca (fX9_become F d a12 2 2 1 (gI h9 213 this) (gI h9 214 this) h9) fun v14 h13 => (
  some (v14, h13)))))
  else
  (fX2_integer_57 F d this h4)))))
  else
  (ca (fX2_numeric F d this p0 h1) fun v17 h16 => (
  nn v17 fun a19 => (
  ca (fX9_become F d a19 2 2 0 0 0 h16) fun v21 h20 => (
  some (v21, h20))))))
set_option maxHeartbeats 4000000 in
theorem tX2_integer_57 (l : Launch) (w : Wd) (hfl : l.stackTraces = false) (F d : Nat) (r : Option Nat × Hp) (this : Nat) (k_this : nd_Kd this = 1) (h : Hp) (hf : fX2_integer_57 F d this h = some r) : nd_V l w yX2_integer cX2_integer 2 (some (.object "NotationDesk$Type")) 5 121 (.inl (some (vr r.1)), r.2) h 57 [(0, vr (some this))] [] := by
  unfold fX2_integer_57 at hf
  refine nd_aload_n (j := 0) dX2_integer_57 rfl rfl ?_
  refine nd_iconst (v := 4) dX2_integer_58 (by decide) ?_
  refine nd_aload_n (j := 0) dX2_integer_59 rfl rfl ?_
  refine nd_getI (k := 2) dX2_integer_60 k_this rfl (Nat.le_of_ble_eq_true rfl) (nd_flO q145) rfl ?_
  refine nd_iconst (v := 1) dX2_integer_63 (by decide) ?_
  refine nd_isub dX2_integer_64 ?_
  replace hf := caE hf
  obtain ⟨v2, h1, e_h1, hf⟩ := hf
  refine nd_Vr [] (tX2_noType l w hfl F d k_this e_h1) rfl dX2_integer_65 mw_X2_noType (Or.inl q382) k_this rfl q384 qs7 (by omega) (by omega) (Nat.le_of_ble_eq_true rfl) (fun ok3 => ?_)
  have ok_v2 : ∀ b, v2 = some b → [6, 7, 8, 9, 11, 12].contains (nd_Kd b) = true := fun b q => okT99 (ok3 b q)
  cases hf
  exact nd_aret (fun b e => okT99' (ok_v2 b e)) dX2_integer_68
set_option maxHeartbeats 4000000 in
theorem tX2_integer (l : Launch) (w : Wd) (hfl : l.stackTraces = false) (F d : Nat) {this : Nat} {p0 : Int32} (k_this : nd_Kd this = 1) {h : Hp} {r : Option Nat × Hp} (hf : fX2_integer F d this p0 h = some r) : nd_C l w yX2_integer cX2_integer 2 (some (.object "NotationDesk$Type")) 5 121 [vr (some this), vi p0] h (.inl (some (vr r.1)), r.2) := by
  refine nd_start (as := [vr (some this), vi p0]) hfl (by decide) (Nat.le_of_ble_eq_true rfl) ?_
  unfold fX2_integer at hf
  refine nd_eqL (L' := [(0, vr (some this)), (1, vi p0)]) rfl ?_
  refine nd_aload_n (j := 0) dX2_integer_0 rfl rfl ?_
  replace hf := caE hf
  obtain ⟨v2, h1, e_h1, hf⟩ := hf
  refine nd_Vi [] (tX2_look l w hfl F d k_this e_h1) rfl dX2_integer_1 mw_X2_look (Or.inl q353) k_this rfl q355 qs2 (by omega) (by omega) (Nat.le_of_ble_eq_true rfl) ?_
  refine nd_bipush (v := 40) dX2_integer_4 (by decide) ?_
  refine nd_icmp_eq (tgt := 23) dX2_integer_6 (by decide) (fun c3 => ?_) (fun c3 => ?_)
  · replace hf := ifp c3 hf
    refine nd_aload_n (j := 0) dX2_integer_23 rfl rfl ?_
    replace hf := caE hf
    obtain ⟨v5, h4, e_h4, hf⟩ := hf
    refine nd_Vi [] (tX2_bounds l w hfl F d k_this e_h4) rfl dX2_integer_24 mw_X2_bounds (Or.inl q454) k_this rfl q456 qs10 (by omega) (by omega) (Nat.le_of_ble_eq_true rfl) ?_
    refine nd_if_ne (tgt := 32) dX2_integer_27 (by decide) (fun c6 => ?_) (fun c6 => ?_)
    · replace hf := ifn c6 hf
      refine nd_aload_n (j := 0) dX2_integer_32 rfl rfl ?_
      refine nd_getI (k := 14) dX2_integer_33 k_this rfl (Nat.le_of_ble_eq_true rfl) (nd_flO q159) rfl ?_
      refine nd_aload_n (j := 0) dX2_integer_36 rfl rfl ?_
      refine nd_getI (k := 13) dX2_integer_37 k_this rfl (Nat.le_of_ble_eq_true rfl) (nd_flO q158) rfl ?_
      refine nd_icmp_lt (tgt := 57) dX2_integer_40 (by decide) (fun c7 => ?_) (fun c7 => ?_)
      · replace hf := ifp c7 hf
        exact nd_loc [0] rfl (tX2_integer_57 l w hfl F d r _ k_this _ hf)
      · replace hf := ifn c7 hf
        refine nd_aload_n (j := 0) dX2_integer_43 rfl rfl ?_
        refine nd_getI (k := 14) dX2_integer_44 k_this rfl (Nat.le_of_ble_eq_true rfl) (nd_flO q159) rfl ?_
        refine nd_aload_n (j := 0) dX2_integer_47 rfl rfl ?_
        refine nd_getI (k := 13) dX2_integer_48 k_this rfl (Nat.le_of_ble_eq_true rfl) (nd_flO q158) rfl ?_
        refine nd_isub dX2_integer_51 ?_
        refine nd_ldc (v := 65535) dX2_integer_52 q462 ?_
        refine nd_icmp_le (tgt := 69) dX2_integer_54 (by decide) (fun c8 => ?_) (fun c8 => ?_)
        · replace hf := ifp c8 hf
          refine nd_aload_n (j := 0) dX2_integer_69 rfl rfl ?_
          refine nd_iload_n (j := 1) dX2_integer_70 rfl rfl ?_
          replace hf := caE hf
          obtain ⟨v10, h9, e_h9, hf⟩ := hf
          refine nd_Vr [] (tX2_numeric l w hfl F d k_this e_h9) rfl dX2_integer_71 mw_X2_numeric (Or.inl q409) k_this rfl q411 qs8 (by omega) (by omega) (Nat.le_of_ble_eq_true rfl) (fun ok11 => ?_)
          have ok_v10 : ∀ b, v10 = some b → [6].contains (nd_Kd b) = true := fun b q => okT6 (ok11 b q)
          refine nd_iconst (v := 2) dX2_integer_74 (by decide) ?_
          refine nd_iconst (v := 2) dX2_integer_75 (by decide) ?_
          refine nd_iconst (v := 1) dX2_integer_76 (by decide) ?_
          refine nd_aload_n (j := 0) dX2_integer_77 rfl rfl ?_
          refine nd_getI (k := 13) dX2_integer_78 k_this rfl (Nat.le_of_ble_eq_true rfl) (nd_flO q158) rfl ?_
          refine nd_aload_n (j := 0) dX2_integer_81 rfl rfl ?_
          refine nd_getI (k := 14) dX2_integer_82 k_this rfl (Nat.le_of_ble_eq_true rfl) (nd_flO q159) rfl ?_
          replace hf := nnE hf
          obtain ⟨a12, e_a12, hf⟩ := hf
          have k_a12 : nd_Kd a12 = 6 := nd_c1 (ok_v10 a12 e_a12)
          subst e_a12
          replace hf := caE hf
          obtain ⟨v14, h13, e_h13, hf⟩ := hf
          refine nd_Vr [] (tX9_become l w hfl F d k_a12 e_h13) rfl dX2_integer_85 mw_X9_become (Or.inl q440) k_a12 rfl q441 q442 (by omega) (by omega) (Nat.le_of_ble_eq_true rfl) (fun ok15 => ?_)
          have ok_v14 : ∀ b, v14 = some b → [6].contains (nd_Kd b) = true := fun b q => okT6 (ok15 b q)
          cases hf
          exact nd_aret (fun b e => okT99' (by have q := nd_c1 (ok_v14 b e); rw [q]; rfl)) dX2_integer_88
        · replace hf := ifn c8 hf
          exact nd_loc [0] rfl (tX2_integer_57 l w hfl F d r _ k_this _ hf)
    · replace hf := ifp c6 hf
      refine nd_null dX2_integer_30 ?_
      cases hf
      exact nd_aret (fun b e => by cases e) dX2_integer_31
  · replace hf := ifn c3 hf
    refine nd_aload_n (j := 0) dX2_integer_9 rfl rfl ?_
    refine nd_iload_n (j := 1) dX2_integer_10 rfl rfl ?_
    replace hf := caE hf
    obtain ⟨v17, h16, e_h16, hf⟩ := hf
    refine nd_Vr [] (tX2_numeric l w hfl F d k_this e_h16) rfl dX2_integer_11 mw_X2_numeric (Or.inl q409) k_this rfl q411 qs8 (by omega) (by omega) (Nat.le_of_ble_eq_true rfl) (fun ok18 => ?_)
    have ok_v17 : ∀ b, v17 = some b → [6].contains (nd_Kd b) = true := fun b q => okT6 (ok18 b q)
    refine nd_iconst (v := 2) dX2_integer_14 (by decide) ?_
    refine nd_iconst (v := 2) dX2_integer_15 (by decide) ?_
    refine nd_iconst (v := 0) dX2_integer_16 (by decide) ?_
    refine nd_iconst (v := 0) dX2_integer_17 (by decide) ?_
    refine nd_iconst (v := 0) dX2_integer_18 (by decide) ?_
    replace hf := nnE hf
    obtain ⟨a19, e_a19, hf⟩ := hf
    have k_a19 : nd_Kd a19 = 6 := nd_c1 (ok_v17 a19 e_a19)
    subst e_a19
    replace hf := caE hf
    obtain ⟨v21, h20, e_h20, hf⟩ := hf
    refine nd_Vr [] (tX9_become l w hfl F d k_a19 e_h20) rfl dX2_integer_19 mw_X9_become (Or.inl q440) k_a19 rfl q441 q442 (by omega) (by omega) (Nat.le_of_ble_eq_true rfl) (fun ok22 => ?_)
    have ok_v21 : ∀ b, v21 = some b → [6].contains (nd_Kd b) = true := fun b q => okT6 (ok22 b q)
    cases hf
    exact nd_aret (fun b e => okT99' (by have q := nd_c1 (ok_v21 b e); rw [q]; rfl)) dX2_integer_22
def fX2_isLetter (F d : Nat) (p0 : Int32) (h : Hp) : Option (Int32 × Hp) :=
  if p0 = 98 then
  (some (1, h))
  else
  (if p0 = 105 then
  (some (1, h))
  else
  (if p0 = 111 then
  (some (1, h))
  else
  (if p0 = 110 then
  (some (1, h))
  else
  (if p0 = 113 then
  (some (1, h))
  else
  (if p0 = 108 then
  (some (1, h))
  else
  (if p0 = 99 then
  (some (1, h))
  else
  (some (0, h))))))))
set_option maxHeartbeats 4000000 in
theorem tX2_isLetter (l : Launch) (w : Wd) (hfl : l.stackTraces = false) (F d : Nat) {p0 : Int32}  {h : Hp} {r : Int32 × Hp} (hf : fX2_isLetter F d p0 h = some r) : nd_C l w yX2_isLetter cX2_isLetter 1 (some .boolean) 0 0 [vi p0] h (.inl (some (vi r.1)), r.2) := by
  refine nd_start (as := [vi p0]) hfl (by decide) (Nat.le_of_ble_eq_true rfl) ?_
  unfold fX2_isLetter at hf
  refine nd_eqL (L' := [(0, vi p0)]) rfl ?_
  refine nd_iload_n (j := 0) dX2_isLetter_0 rfl rfl ?_
  refine nd_bipush (v := 98) dX2_isLetter_1 (by decide) ?_
  refine nd_icmp_eq (tgt := 42) dX2_isLetter_3 (by decide) (fun c1 => ?_) (fun c1 => ?_)
  · replace hf := ifp c1 hf
    refine nd_iconst (v := 1) dX2_isLetter_42 (by decide) ?_
    refine nd_goto (tgt := 47) dX2_isLetter_43 (by decide) ?_
    cases hf
    exact nd_zret (v := 1) (by decide) dX2_isLetter_47
  · replace hf := ifn c1 hf
    refine nd_iload_n (j := 0) dX2_isLetter_6 rfl rfl ?_
    refine nd_bipush (v := 105) dX2_isLetter_7 (by decide) ?_
    refine nd_icmp_eq (tgt := 42) dX2_isLetter_9 (by decide) (fun c2 => ?_) (fun c2 => ?_)
    · replace hf := ifp c2 hf
      refine nd_iconst (v := 1) dX2_isLetter_42 (by decide) ?_
      refine nd_goto (tgt := 47) dX2_isLetter_43 (by decide) ?_
      cases hf
      exact nd_zret (v := 1) (by decide) dX2_isLetter_47
    · replace hf := ifn c2 hf
      refine nd_iload_n (j := 0) dX2_isLetter_12 rfl rfl ?_
      refine nd_bipush (v := 111) dX2_isLetter_13 (by decide) ?_
      refine nd_icmp_eq (tgt := 42) dX2_isLetter_15 (by decide) (fun c3 => ?_) (fun c3 => ?_)
      · replace hf := ifp c3 hf
        refine nd_iconst (v := 1) dX2_isLetter_42 (by decide) ?_
        refine nd_goto (tgt := 47) dX2_isLetter_43 (by decide) ?_
        cases hf
        exact nd_zret (v := 1) (by decide) dX2_isLetter_47
      · replace hf := ifn c3 hf
        refine nd_iload_n (j := 0) dX2_isLetter_18 rfl rfl ?_
        refine nd_bipush (v := 110) dX2_isLetter_19 (by decide) ?_
        refine nd_icmp_eq (tgt := 42) dX2_isLetter_21 (by decide) (fun c4 => ?_) (fun c4 => ?_)
        · replace hf := ifp c4 hf
          refine nd_iconst (v := 1) dX2_isLetter_42 (by decide) ?_
          refine nd_goto (tgt := 47) dX2_isLetter_43 (by decide) ?_
          cases hf
          exact nd_zret (v := 1) (by decide) dX2_isLetter_47
        · replace hf := ifn c4 hf
          refine nd_iload_n (j := 0) dX2_isLetter_24 rfl rfl ?_
          refine nd_bipush (v := 113) dX2_isLetter_25 (by decide) ?_
          refine nd_icmp_eq (tgt := 42) dX2_isLetter_27 (by decide) (fun c5 => ?_) (fun c5 => ?_)
          · replace hf := ifp c5 hf
            refine nd_iconst (v := 1) dX2_isLetter_42 (by decide) ?_
            refine nd_goto (tgt := 47) dX2_isLetter_43 (by decide) ?_
            cases hf
            exact nd_zret (v := 1) (by decide) dX2_isLetter_47
          · replace hf := ifn c5 hf
            refine nd_iload_n (j := 0) dX2_isLetter_30 rfl rfl ?_
            refine nd_bipush (v := 108) dX2_isLetter_31 (by decide) ?_
            refine nd_icmp_eq (tgt := 42) dX2_isLetter_33 (by decide) (fun c6 => ?_) (fun c6 => ?_)
            · replace hf := ifp c6 hf
              refine nd_iconst (v := 1) dX2_isLetter_42 (by decide) ?_
              refine nd_goto (tgt := 47) dX2_isLetter_43 (by decide) ?_
              cases hf
              exact nd_zret (v := 1) (by decide) dX2_isLetter_47
            · replace hf := ifn c6 hf
              refine nd_iload_n (j := 0) dX2_isLetter_36 rfl rfl ?_
              refine nd_bipush (v := 99) dX2_isLetter_37 (by decide) ?_
              refine nd_icmp_ne (tgt := 46) dX2_isLetter_39 (by decide) (fun c7 => ?_) (fun c7 => ?_)
              · replace hf := ifn c7 hf
                refine nd_iconst (v := 0) dX2_isLetter_46 (by decide) ?_
                cases hf
                exact nd_zret (v := 0) (by decide) dX2_isLetter_47
              · replace hf := ifp c7 hf
                refine nd_iconst (v := 1) dX2_isLetter_42 (by decide) ?_
                refine nd_goto (tgt := 47) dX2_isLetter_43 (by decide) ?_
                cases hf
                exact nd_zret (v := 1) (by decide) dX2_isLetter_47
def fX2_isName (F d : Nat) (this : Nat) (h : Hp) : Option (Int32 × Hp) :=
  if (gI h 201 this) ≤ (gI h 202 this) then
  (some (0, h))
  else
  (ca (fX2_look F d this h) fun v3 h2 => (
  if v3 < 65 then
  (some (0, h2))
  else
  (ca (fX2_look F d this h2) fun v6 h5 => (
  if 90 < v6 then
  (some (0, h5))
  else
  (some (1, h5))))))
set_option maxHeartbeats 4000000 in
theorem tX2_isName (l : Launch) (w : Wd) (hfl : l.stackTraces = false) (F d : Nat) {this : Nat} (k_this : nd_Kd this = 1) {h : Hp} {r : Int32 × Hp} (hf : fX2_isName F d this h = some r) : nd_C l w yX2_isName cX2_isName 1 (some .boolean) 1 20 [vr (some this)] h (.inl (some (vi r.1)), r.2) := by
  refine nd_start (as := [vr (some this)]) hfl (by decide) (Nat.le_of_ble_eq_true rfl) ?_
  unfold fX2_isName at hf
  refine nd_eqL (L' := [(0, vr (some this))]) rfl ?_
  refine nd_aload_n (j := 0) dX2_isName_0 rfl rfl ?_
  refine nd_getI (k := 2) dX2_isName_1 k_this rfl (Nat.le_of_ble_eq_true rfl) (nd_flO q145) rfl ?_
  refine nd_aload_n (j := 0) dX2_isName_4 rfl rfl ?_
  refine nd_getI (k := 1) dX2_isName_5 k_this rfl (Nat.le_of_ble_eq_true rfl) (nd_flO q143) rfl ?_
  refine nd_icmp_ge (tgt := 33) dX2_isName_8 (by decide) (fun c1 => ?_) (fun c1 => ?_)
  · replace hf := ifp c1 hf
    refine nd_iconst (v := 0) dX2_isName_33 (by decide) ?_
    cases hf
    exact nd_zret (v := 0) (by decide) dX2_isName_34
  · replace hf := ifn c1 hf
    refine nd_aload_n (j := 0) dX2_isName_11 rfl rfl ?_
    replace hf := caE hf
    obtain ⟨v3, h2, e_h2, hf⟩ := hf
    refine nd_Vi [] (tX2_look l w hfl F d k_this e_h2) rfl dX2_isName_12 mw_X2_look (Or.inl q353) k_this rfl q355 qs2 (by omega) (by omega) (Nat.le_of_ble_eq_true rfl) ?_
    refine nd_bipush (v := 65) dX2_isName_15 (by decide) ?_
    refine nd_icmp_lt (tgt := 33) dX2_isName_17 (by decide) (fun c4 => ?_) (fun c4 => ?_)
    · replace hf := ifp c4 hf
      refine nd_iconst (v := 0) dX2_isName_33 (by decide) ?_
      cases hf
      exact nd_zret (v := 0) (by decide) dX2_isName_34
    · replace hf := ifn c4 hf
      refine nd_aload_n (j := 0) dX2_isName_20 rfl rfl ?_
      replace hf := caE hf
      obtain ⟨v6, h5, e_h5, hf⟩ := hf
      refine nd_Vi [] (tX2_look l w hfl F d k_this e_h5) rfl dX2_isName_21 mw_X2_look (Or.inl q353) k_this rfl q355 qs2 (by omega) (by omega) (Nat.le_of_ble_eq_true rfl) ?_
      refine nd_bipush (v := 90) dX2_isName_24 (by decide) ?_
      refine nd_icmp_gt (tgt := 33) dX2_isName_26 (by decide) (fun c7 => ?_) (fun c7 => ?_)
      · replace hf := ifp c7 hf
        refine nd_iconst (v := 0) dX2_isName_33 (by decide) ?_
        cases hf
        exact nd_zret (v := 0) (by decide) dX2_isName_34
      · replace hf := ifn c7 hf
        refine nd_iconst (v := 1) dX2_isName_29 (by decide) ?_
        refine nd_goto (tgt := 34) dX2_isName_30 (by decide) ?_
        cases hf
        exact nd_zret (v := 1) (by decide) dX2_isName_34
def fX10_height_40 (F d : Nat) (R_height : Nat → Hp → Option (Int32 × Hp)) (k_4 : Nat → Int32 → Int32 → Hp → Option (Int32 × Hp)) (this : Nat) (x2 : Int32) (s0 : Int32) (h : Hp) : Option (Int32 × Hp) :=
  bn (x2 + 1) fun v1 => (
  k_4 this s0 v1 h)
def fX10_height_4 (F d : Nat) (R_height : Nat → Hp → Option (Int32 × Hp)) : Nat → Nat → Int32 → Int32 → Hp → Option (Int32 × Hp)
  | 0, _, _, _, _ => none
  | n + 1, this, x1, x2, h =>
    if (gI h 1001 this) ≤ x2 then
    (some (x1, h))
    else
    (nn (gP h 1000 this) fun a3 => (
    ck (inb x2 (nd_Ln a3)) (
    bn (gR h a3 (Int32.toNatClampNeg x2)) fun o6 => (
    nn o6 fun a7 => (
    ca (R_height a7 h) fun v9 h8 => (
    if v9 < x1 then
    (fX10_height_40 F d R_height (fX10_height_4 F d R_height n) this x2 x1 h8)
    else
    (nn (gP h8 1000 this) fun a12 => (
    ck (inb x2 (nd_Ln a12)) (
    bn (gR h8 a12 (Int32.toNatClampNeg x2)) fun o15 => (
    nn o15 fun a16 => (
    ca (R_height a16 h8) fun v18 h17 => (
    fX10_height_40 F d R_height (fX10_height_4 F d R_height n) this x2 (v18 + 1) h17))))))))))))
def fX10_height (F d : Nat) (R_height : Nat → Hp → Option (Int32 × Hp)) (this : Nat) (h : Hp) : Option (Int32 × Hp) :=
  fX10_height_4 F d R_height F this 0 0 h
set_option maxHeartbeats 4000000 in
theorem tX10_height_40 (l : Launch) (w : Wd) (hfl : l.stackTraces = false) (F d : Nat) (R_height : Nat → Hp → Option (Int32 × Hp)) (hR_height : ∀ {b : Nat} (k_b : [6, 7, 8, 9, 11, 12].contains (nd_Kd b) = true) {h : Hp} {r : Int32 × Hp}, R_height b h = some r → nc_height l w b (1 + 8 * d) (30 + 400 * d) [vr (some b)] h (.inl (some (vi r.1)), r.2)) (r : Int32 × Hp) (k_4 : Nat → Int32 → Int32 → Hp → Option (Int32 × Hp)) (hk_4 : ∀ (this : Nat) (x1 : Int32) (x2 : Int32) (k_this : [7, 8].contains (nd_Kd this) = true) (h : Hp), k_4 this x1 x2 h = some r → nd_V l w yX10_height cX10_height 3 (some .int) (2 + 8 * d) (52 + 400 * d) (.inl (some (vi r.1)), r.2) h 4 [(0, vr (some this)), (1, vi x1), (2, vi x2)] []) (this : Nat) (x2 : Int32) (s0 : Int32) (k_this : [7, 8].contains (nd_Kd this) = true) (h : Hp) (hf : fX10_height_40 F d R_height k_4 this x2 s0 h = some r) : nd_V l w yX10_height cX10_height 3 (some .int) (2 + 8 * d) (52 + 400 * d) (.inl (some (vi r.1)), r.2) h 40 [(0, vr (some this)), (2, vi x2)] [vi s0] := by
  unfold fX10_height_40 at hf
  refine nd_istore_n [(1, vi s0), (0, vr (some this)), (2, vi x2)] dX10_height_40 rfl (Nat.le_of_ble_eq_true rfl) rfl ?_
  replace hf := bnE hf
  obtain ⟨v1, e_v1, hf⟩ := hf
  refine nd_iinc (v := v1) (j := 2) [(2, vi v1), (1, vi s0), (0, vr (some this))] dX10_height_41 rfl (by rw [e_v1]; rfl) (Nat.le_of_ble_eq_true rfl) rfl ?_
  refine nd_goto (tgt := 4) dX10_height_44 (by decide) ?_
  exact nd_loc [2, 1, 0] rfl (hk_4 _ _ _ k_this _ hf)
set_option maxHeartbeats 4000000 in
theorem tX10_height_4 (l : Launch) (w : Wd) (hfl : l.stackTraces = false) (F d : Nat) (R_height : Nat → Hp → Option (Int32 × Hp)) (hR_height : ∀ {b : Nat} (k_b : [6, 7, 8, 9, 11, 12].contains (nd_Kd b) = true) {h : Hp} {r : Int32 × Hp}, R_height b h = some r → nc_height l w b (1 + 8 * d) (30 + 400 * d) [vr (some b)] h (.inl (some (vi r.1)), r.2)) (r : Int32 × Hp) : ∀ (n : Nat) (this : Nat) (x1 : Int32) (x2 : Int32) (k_this : [7, 8].contains (nd_Kd this) = true) (h : Hp), fX10_height_4 F d R_height n this x1 x2 h = some r → nd_V l w yX10_height cX10_height 3 (some .int) (2 + 8 * d) (52 + 400 * d) (.inl (some (vi r.1)), r.2) h 4 [(0, vr (some this)), (1, vi x1), (2, vi x2)] [] := by
  intro n
  induction n with
  | zero => intro _ _ _ _ _ hf; cases hf
  | succ n ih =>
    intro this x1 x2 k_this h hf
    unfold fX10_height_4 at hf
    refine nd_iload_n (j := 2) dX10_height_4 rfl rfl ?_
    refine nd_aload_n (j := 0) dX10_height_5 rfl rfl ?_
    refine nd_p2 k_this (fun k1_ kk_ => nd_getI (k := 1) dX10_height_6 k1_ rfl (Nat.le_of_ble_eq_true rfl) (nd_flO q484) rfl kk_) (fun k1_ kk_ => nd_getI (k := 1) dX10_height_6 k1_ rfl (Nat.le_of_ble_eq_true rfl) (nd_flO q484) rfl kk_) ?_
    refine nd_icmp_ge (tgt := 47) dX10_height_9 (by decide) (fun c1 => ?_) (fun c1 => ?_)
    · replace hf := ifp c1 hf
      refine nd_iload_n (j := 1) dX10_height_47 rfl rfl ?_
      cases hf
      exact nd_iret (v := x1) dX10_height_48
    · replace hf := ifn c1 hf
      refine nd_aload_n (j := 0) dX10_height_12 rfl rfl ?_
      refine nd_p2 k_this (fun k1_ kk_ => nd_getP (k := 0) dX10_height_13 k1_ rfl (Nat.le_of_ble_eq_true rfl) (nd_flO q479) rfl kk_) (fun k1_ kk_ => nd_getP (k := 0) dX10_height_13 k1_ rfl (Nat.le_of_ble_eq_true rfl) (nd_flO q479) rfl kk_) (fun ok2 => ?_)
      replace hf := nnE hf
      obtain ⟨a3, e_a3, hf⟩ := hf
      refine nd_topr e_a3.symm ?_
      have k_a3 : nd_Kd a3 = 24 := nd_c1 (ok2 a3 e_a3)
      refine nd_iload_n (j := 2) dX10_height_16 rfl rfl ?_
      replace hf := ckE hf
      obtain ⟨c4, hf⟩ := hf
      refine nd_aald (t := 4) (C := "NotationDesk$Type") dX10_height_17 k_a3 (by decide) (fun _ => rfl) c4 (fun ok5 => ?_)
      replace hf := bnE hf
      obtain ⟨o6, e_o6, hf⟩ := hf
      refine nd_topr e_o6 ?_
      have ok_o6 : ∀ b, o6 = some b → [6, 7, 8, 9, 11, 12].contains (nd_Kd b) = true := fun b q => ok5 b (e_o6 ▸ q)
      replace hf := nnE hf
      obtain ⟨a7, e_a7, hf⟩ := hf
      have k_a7 : [6, 7, 8, 9, 11, 12].contains (nd_Kd a7) = true := ok_o6 a7 e_a7
      subst e_a7
      replace hf := caE hf
      obtain ⟨v9, h8, e_h8, hf⟩ := hf
      refine nd_v_height [] (hR_height k_a7 e_h8) rfl dX10_height_18 q392 k_a7 (by omega) (by omega) (Nat.le_of_ble_eq_true rfl) ?_
      refine nd_iload_n (j := 1) dX10_height_21 rfl rfl ?_
      refine nd_icmp_lt (tgt := 39) dX10_height_22 (by decide) (fun c10 => ?_) (fun c10 => ?_)
      · replace hf := ifp c10 hf
        refine nd_iload_n (j := 1) dX10_height_39 rfl rfl ?_
        exact nd_loc [0, 2] rfl (tX10_height_40 l w hfl F d R_height hR_height r (fX10_height_4 F d R_height n) ih _ _ _ k_this _ hf)
      · replace hf := ifn c10 hf
        refine nd_aload_n (j := 0) dX10_height_25 rfl rfl ?_
        refine nd_p2 k_this (fun k1_ kk_ => nd_getP (k := 0) dX10_height_26 k1_ rfl (Nat.le_of_ble_eq_true rfl) (nd_flO q479) rfl kk_) (fun k1_ kk_ => nd_getP (k := 0) dX10_height_26 k1_ rfl (Nat.le_of_ble_eq_true rfl) (nd_flO q479) rfl kk_) (fun ok11 => ?_)
        replace hf := nnE hf
        obtain ⟨a12, e_a12, hf⟩ := hf
        refine nd_topr e_a12.symm ?_
        have k_a12 : nd_Kd a12 = 24 := nd_c1 (ok11 a12 e_a12)
        refine nd_iload_n (j := 2) dX10_height_29 rfl rfl ?_
        replace hf := ckE hf
        obtain ⟨c13, hf⟩ := hf
        refine nd_aald (t := 4) (C := "NotationDesk$Type") dX10_height_30 k_a12 (by decide) (fun _ => rfl) c13 (fun ok14 => ?_)
        replace hf := bnE hf
        obtain ⟨o15, e_o15, hf⟩ := hf
        refine nd_topr e_o15 ?_
        have ok_o15 : ∀ b, o15 = some b → [6, 7, 8, 9, 11, 12].contains (nd_Kd b) = true := fun b q => ok14 b (e_o15 ▸ q)
        replace hf := nnE hf
        obtain ⟨a16, e_a16, hf⟩ := hf
        have k_a16 : [6, 7, 8, 9, 11, 12].contains (nd_Kd a16) = true := ok_o15 a16 e_a16
        subst e_a16
        replace hf := caE hf
        obtain ⟨v18, h17, e_h17, hf⟩ := hf
        refine nd_v_height [] (hR_height k_a16 e_h17) rfl dX10_height_31 q392 k_a16 (by omega) (by omega) (Nat.le_of_ble_eq_true rfl) ?_
        refine nd_iconst (v := 1) dX10_height_34 (by decide) ?_
        refine nd_iadd dX10_height_35 ?_
        refine nd_goto (tgt := 40) dX10_height_36 (by decide) ?_
        exact nd_loc [0, 2] rfl (tX10_height_40 l w hfl F d R_height hR_height r (fX10_height_4 F d R_height n) ih _ _ _ k_this _ hf)
set_option maxHeartbeats 4000000 in
theorem tX10_height (l : Launch) (w : Wd) (hfl : l.stackTraces = false) (F d : Nat) (R_height : Nat → Hp → Option (Int32 × Hp)) (hR_height : ∀ {b : Nat} (k_b : [6, 7, 8, 9, 11, 12].contains (nd_Kd b) = true) {h : Hp} {r : Int32 × Hp}, R_height b h = some r → nc_height l w b (1 + 8 * d) (30 + 400 * d) [vr (some b)] h (.inl (some (vi r.1)), r.2)) {this : Nat} (k_this : [7, 8].contains (nd_Kd this) = true) {h : Hp} {r : Int32 × Hp} (hf : fX10_height F d R_height this h = some r) : nd_C l w yX10_height cX10_height 3 (some .int) (2 + 8 * d) (52 + 400 * d) [vr (some this)] h (.inl (some (vi r.1)), r.2) := by
  refine nd_start (as := [vr (some this)]) hfl (by decide) (Nat.le_of_ble_eq_true rfl) ?_
  unfold fX10_height at hf
  refine nd_eqL (L' := [(0, vr (some this))]) rfl ?_
  refine nd_iconst (v := 0) dX10_height_0 (by decide) ?_
  refine nd_istore_n [(1, vi 0), (0, vr (some this))] dX10_height_1 rfl (Nat.le_of_ble_eq_true rfl) rfl ?_
  refine nd_iconst (v := 0) dX10_height_2 (by decide) ?_
  refine nd_istore_n [(2, vi 0), (1, vi 0), (0, vr (some this))] dX10_height_3 rfl (Nat.le_of_ble_eq_true rfl) rfl ?_
  exact nd_loc [2, 1, 0] rfl (tX10_height_4 l w hfl F d R_height hR_height r F _ _ _ k_this _ hf)
def fX15_height (F d : Nat) (R_height : Nat → Hp → Option (Int32 × Hp)) (this : Nat) (h : Hp) : Option (Int32 × Hp) :=
  bn (gP h 1501 this) fun o2 => (
  nn o2 fun a3 => (
  ca (R_height a3 h) fun v5 h4 => (
  some ((v5 + 1), h4))))
set_option maxHeartbeats 4000000 in
theorem tX15_height (l : Launch) (w : Wd) (hfl : l.stackTraces = false) (F d : Nat) (R_height : Nat → Hp → Option (Int32 × Hp)) (hR_height : ∀ {b : Nat} (k_b : [6, 7, 8, 9, 11, 12].contains (nd_Kd b) = true) {h : Hp} {r : Int32 × Hp}, R_height b h = some r → nc_height l w b (1 + 8 * d) (30 + 400 * d) [vr (some b)] h (.inl (some (vi r.1)), r.2)) {this : Nat} (k_this : nd_Kd this = 11) {h : Hp} {r : Int32 × Hp} (hf : fX15_height F d R_height this h = some r) : nd_C l w yX15_height cX15_height 1 (some .int) (2 + 8 * d) (52 + 400 * d) [vr (some this)] h (.inl (some (vi r.1)), r.2) := by
  refine nd_start (as := [vr (some this)]) hfl (by decide) (Nat.le_of_ble_eq_true rfl) ?_
  unfold fX15_height at hf
  refine nd_eqL (L' := [(0, vr (some this))]) rfl ?_
  refine nd_aload_n (j := 0) dX15_height_0 rfl rfl ?_
  refine nd_getP (k := 1) dX15_height_1 k_this rfl (Nat.le_of_ble_eq_true rfl) (nd_flO q634) rfl (fun ok1 => ?_)
  replace hf := bnE hf
  obtain ⟨o2, e_o2, hf⟩ := hf
  refine nd_topr e_o2 ?_
  have ok_o2 : ∀ b, o2 = some b → [6, 7, 8, 9, 11, 12].contains (nd_Kd b) = true := fun b q => ok1 b (e_o2 ▸ q)
  replace hf := nnE hf
  obtain ⟨a3, e_a3, hf⟩ := hf
  have k_a3 : [6, 7, 8, 9, 11, 12].contains (nd_Kd a3) = true := ok_o2 a3 e_a3
  subst e_a3
  replace hf := caE hf
  obtain ⟨v5, h4, e_h4, hf⟩ := hf
  refine nd_v_height [] (hR_height k_a3 e_h4) rfl dX15_height_4 q397 k_a3 (by omega) (by omega) (Nat.le_of_ble_eq_true rfl) ?_
  refine nd_iconst (v := 1) dX15_height_7 (by decide) ?_
  refine nd_iadd dX15_height_8 ?_
  cases hf
  exact nd_iret (v := (v5 + 1)) dX15_height_9
def fX8_height (F d : Nat) (this : Nat) (h : Hp) : Option (Int32 × Hp) :=
  some (0, h)
set_option maxHeartbeats 4000000 in
theorem tX8_height (l : Launch) (w : Wd) (hfl : l.stackTraces = false) (F d : Nat) {this : Nat} (k_this : [6, 9].contains (nd_Kd this) = true) {h : Hp} {r : Int32 × Hp} (hf : fX8_height F d this h = some r) : nd_C l w yX8_height cX8_height 1 (some .int) 0 0 [vr (some this)] h (.inl (some (vi r.1)), r.2) := by
  refine nd_start (as := [vr (some this)]) hfl (by decide) (Nat.le_of_ble_eq_true rfl) ?_
  unfold fX8_height at hf
  refine nd_eqL (L' := [(0, vr (some this))]) rfl ?_
  refine nd_iconst (v := 0) dX8_height_0 (by decide) ?_
  cases hf
  exact nd_iret (v := 0) dX8_height_1
def fX16_height (F d : Nat) (R_height : Nat → Hp → Option (Int32 × Hp)) (this : Nat) (h : Hp) : Option (Int32 × Hp) :=
  nn (gP h 1602 this) fun a2 => (
  ca (R_height a2 h) fun v4 h3 => (
  some ((v4 + 1), h3)))
set_option maxHeartbeats 4000000 in
theorem tX16_height (l : Launch) (w : Wd) (hfl : l.stackTraces = false) (F d : Nat) (R_height : Nat → Hp → Option (Int32 × Hp)) (hR_height : ∀ {b : Nat} (k_b : [6, 7, 8, 9, 11, 12].contains (nd_Kd b) = true) {h : Hp} {r : Int32 × Hp}, R_height b h = some r → nc_height l w b (1 + 8 * d) (30 + 400 * d) [vr (some b)] h (.inl (some (vi r.1)), r.2)) {this : Nat} (k_this : nd_Kd this = 12) {h : Hp} {r : Int32 × Hp} (hf : fX16_height F d R_height this h = some r) : nd_C l w yX16_height cX16_height 1 (some .int) (2 + 8 * d) (52 + 400 * d) [vr (some this)] h (.inl (some (vi r.1)), r.2) := by
  refine nd_start (as := [vr (some this)]) hfl (by decide) (Nat.le_of_ble_eq_true rfl) ?_
  unfold fX16_height at hf
  refine nd_eqL (L' := [(0, vr (some this))]) rfl ?_
  refine nd_aload_n (j := 0) dX16_height_0 rfl rfl ?_
  refine nd_getP (k := 2) dX16_height_1 k_this rfl (Nat.le_of_ble_eq_true rfl) (nd_flO q648) rfl (fun ok1 => ?_)
  replace hf := nnE hf
  obtain ⟨a2, e_a2, hf⟩ := hf
  refine nd_topr e_a2.symm ?_
  have k_a2 : [6, 7, 8, 9, 11, 12].contains (nd_Kd a2) = true := ok1 a2 e_a2
  replace hf := caE hf
  obtain ⟨v4, h3, e_h3, hf⟩ := hf
  refine nd_v_height [] (hR_height k_a2 e_h3) rfl dX16_height_4 q400 k_a2 (by omega) (by omega) (Nat.le_of_ble_eq_true rfl) ?_
  refine nd_iconst (v := 1) dX16_height_7 (by decide) ?_
  refine nd_iadd dX16_height_8 ?_
  cases hf
  exact nd_iret (v := (v4 + 1)) dX16_height_9
def v_height (F : Nat) : Nat → Nat → Hp → Option (Int32 × Hp)
  | 0, _, _ => none
  | d + 1, b, h =>
    if nd_Kd b = 6 then fX8_height F d b h
    else if nd_Kd b = 7 then fX10_height F d (v_height F d) b h
    else if nd_Kd b = 8 then fX10_height F d (v_height F d) b h
    else if nd_Kd b = 9 then fX8_height F d b h
    else if nd_Kd b = 11 then fX15_height F d (v_height F d) b h
    else if nd_Kd b = 12 then fX16_height F d (v_height F d) b h
    else none
set_option maxHeartbeats 4000000 in
theorem tv_height (l : Launch) (w : Wd) (hfl : l.stackTraces = false) (F : Nat) : ∀ (d : Nat) {b : Nat} (k_b : [6, 7, 8, 9, 11, 12].contains (nd_Kd b) = true) {h : Hp} {r : Int32 × Hp}, v_height F d b h = some r → nc_height l w b (1 + 8 * d) (30 + 400 * d) [vr (some b)] h (.inl (some (vi r.1)), r.2) := by
  intro d
  induction d with
  | zero => intro b k_b h r hf; cases hf
  | succ d ih =>
    intro b k_b h r hf
    unfold v_height at hf
    refine ⟨fun e_ => ?_, fun e_ => ?_, fun e_ => ?_, fun e_ => ?_, fun e_ => ?_, fun e_ => ?_⟩
    · rw [if_pos e_] at hf
      exact nd_C.room (tX8_height l w hfl F d (by rw [e_]; rfl) hf) (by omega) (by omega)
    · rw [if_neg (by omega)] at hf; rw [if_pos e_] at hf
      exact nd_C.room (tX10_height l w hfl F d (v_height F d) (ih) (by rw [e_]; rfl) hf) (by omega) (by omega)
    · rw [if_neg (by omega)] at hf; rw [if_neg (by omega)] at hf; rw [if_pos e_] at hf
      exact nd_C.room (tX10_height l w hfl F d (v_height F d) (ih) (by rw [e_]; rfl) hf) (by omega) (by omega)
    · rw [if_neg (by omega)] at hf; rw [if_neg (by omega)] at hf; rw [if_neg (by omega)] at hf; rw [if_pos e_] at hf
      exact nd_C.room (tX8_height l w hfl F d (by rw [e_]; rfl) hf) (by omega) (by omega)
    · rw [if_neg (by omega)] at hf; rw [if_neg (by omega)] at hf; rw [if_neg (by omega)] at hf; rw [if_neg (by omega)] at hf; rw [if_pos e_] at hf
      exact nd_C.room (tX15_height l w hfl F d (v_height F d) (ih) e_ hf) (by omega) (by omega)
    · rw [if_neg (by omega)] at hf; rw [if_neg (by omega)] at hf; rw [if_neg (by omega)] at hf; rw [if_neg (by omega)] at hf; rw [if_neg (by omega)] at hf; rw [if_pos e_] at hf
      exact nd_C.room (tX16_height l w hfl F d (v_height F d) (ih) e_ hf) (by omega) (by omega)
def fX2_named (F d : Nat) (this : Nat) (p0 : Int32) (h : Hp) : Option (Option Nat × Hp) :=
  nn (gP h 204 this) fun a2 => (
  ca (fX2_look F d this h) fun v4 h3 => (
  ck (inb (v4 - 65) (nd_Ln a2)) (
  bn (gR h3 a2 (Int32.toNatClampNeg (v4 - 65))) fun o7 => (
  oc o7
  (ca (fX2_noType F d this 3 (gI h3 202 this) h3) fun v10 h9 => (
  some (v10, h9)))
  (fun a8 =>
  ca (v_height F d a8 h3) fun v13 h12 => (
  if (p0 + v13) < 6 then
  (bn (sI h12 202 this ((gI h12 202 this) + 1)) fun h15 => (
  some ((some a8), h15)))
  else
  (ca (fX2_noType F d this 5 (gI h12 202 this) h12) fun v17 h16 => (
  some (v17, h16)))))))))
set_option maxHeartbeats 4000000 in
theorem tX2_named (l : Launch) (w : Wd) (hfl : l.stackTraces = false) (F d : Nat) {this : Nat} {p0 : Int32} (k_this : nd_Kd this = 1) {h : Hp} {r : Option Nat × Hp} (hf : fX2_named F d this p0 h = some r) : nd_C l w yX2_named cX2_named 3 (some (.object "NotationDesk$Type")) (2 + 8 * d) (52 + 400 * d) [vr (some this), vi p0] h (.inl (some (vr r.1)), r.2) := by
  refine nd_start (as := [vr (some this), vi p0]) hfl (by decide) (Nat.le_of_ble_eq_true rfl) ?_
  unfold fX2_named at hf
  refine nd_eqL (L' := [(0, vr (some this)), (1, vi p0)]) rfl ?_
  refine nd_aload_n (j := 0) dX2_named_0 rfl rfl ?_
  refine nd_getP (k := 4) dX2_named_1 k_this rfl (Nat.le_of_ble_eq_true rfl) (nd_flO q148) rfl (fun ok1 => ?_)
  replace hf := nnE hf
  obtain ⟨a2, e_a2, hf⟩ := hf
  refine nd_topr e_a2.symm ?_
  have k_a2 : nd_Kd a2 = 24 := nd_c1 (ok1 a2 e_a2)
  refine nd_aload_n (j := 0) dX2_named_4 rfl rfl ?_
  replace hf := caE hf
  obtain ⟨v4, h3, e_h3, hf⟩ := hf
  refine nd_Vi [vr (some a2)] (tX2_look l w hfl F d k_this e_h3) rfl dX2_named_5 mw_X2_look (Or.inl q353) k_this rfl q355 qs2 (by omega) (by omega) (Nat.le_of_ble_eq_true rfl) ?_
  refine nd_bipush (v := 65) dX2_named_8 (by decide) ?_
  refine nd_isub dX2_named_10 ?_
  replace hf := ckE hf
  obtain ⟨c5, hf⟩ := hf
  refine nd_aald (t := 4) (C := "NotationDesk$Type") dX2_named_11 k_a2 (by decide) (fun _ => rfl) c5 (fun ok6 => ?_)
  replace hf := bnE hf
  obtain ⟨o7, e_o7, hf⟩ := hf
  refine nd_topr e_o7 ?_
  have ok_o7 : ∀ b, o7 = some b → [6, 7, 8, 9, 11, 12].contains (nd_Kd b) = true := fun b q => ok6 b (e_o7 ▸ q)
  refine nd_astore_n [(2, vr o7), (0, vr (some this)), (1, vi p0)] dX2_named_12 rfl (Nat.le_of_ble_eq_true rfl) rfl ?_
  refine nd_aload_n (j := 0) dX2_named_13 rfl rfl ?_
  refine nd_ifnonnull (tgt := 27) dX2_named_14 (by decide) (fun e_a8 => ?_) (fun a8 e_a8 => ?_)
  · replace hf := ocN e_a8 hf
    subst e_a8
    refine nd_aload_n (j := 1) dX2_named_17 rfl rfl ?_
    refine nd_iconst (v := 3) dX2_named_18 (by decide) ?_
    refine nd_aload_n (j := 1) dX2_named_19 rfl rfl ?_
    refine nd_getI (k := 2) dX2_named_20 k_this rfl (Nat.le_of_ble_eq_true rfl) (nd_flO q145) rfl ?_
    replace hf := caE hf
    obtain ⟨v10, h9, e_h9, hf⟩ := hf
    refine nd_Vr [] (tX2_noType l w hfl F d k_this e_h9) rfl dX2_named_23 mw_X2_noType (Or.inl q382) k_this rfl q384 qs7 (by omega) (by omega) (Nat.le_of_ble_eq_true rfl) (fun ok11 => ?_)
    have ok_v10 : ∀ b, v10 = some b → [6, 7, 8, 9, 11, 12].contains (nd_Kd b) = true := fun b q => okT99 (ok11 b q)
    cases hf
    exact nd_aret (fun b e => okT99' (ok_v10 b e)) dX2_named_26
  · replace hf := ocS e_a8 hf
    have k_a8 : [6, 7, 8, 9, 11, 12].contains (nd_Kd a8) = true := ok_o7 a8 e_a8
    subst e_a8
    refine nd_iload_n (j := 2) dX2_named_27 rfl rfl ?_
    refine nd_aload_n (j := 0) dX2_named_28 rfl rfl ?_
    replace hf := caE hf
    obtain ⟨v13, h12, e_h12, hf⟩ := hf
    refine nd_v_height [vi p0] (tv_height l w hfl F d k_a8 e_h12) rfl dX2_named_29 q386 k_a8 (by omega) (by omega) (Nat.le_of_ble_eq_true rfl) ?_
    refine nd_iadd dX2_named_32 ?_
    refine nd_bipush (v := 6) dX2_named_33 (by decide) ?_
    refine nd_icmp_lt (tgt := 48) dX2_named_35 (by decide) (fun c14 => ?_) (fun c14 => ?_)
    · replace hf := ifp c14 hf
      refine nd_aload_n (j := 1) dX2_named_48 rfl rfl ?_
      refine nd_dup dX2_named_49 rfl ?_
      refine nd_getI (k := 2) dX2_named_50 k_this rfl (Nat.le_of_ble_eq_true rfl) (nd_flO q145) rfl ?_
      refine nd_iconst (v := 1) dX2_named_53 (by decide) ?_
      refine nd_iadd dX2_named_54 ?_
      refine nd_putN (k := 2) dX2_named_55 k_this rfl (Nat.le_of_ble_eq_true rfl) (nd_flO q145) rfl rfl rfl ?_
      replace hf := bnE hf
      obtain ⟨h15, e_h15, hf⟩ := hf
      refine nd_hp e_h15 ?_
      refine nd_aload_n (j := 0) dX2_named_58 rfl rfl ?_
      cases hf
      exact nd_aret (fun b e => by cases e; exact okT99' k_a8) dX2_named_59
    · replace hf := ifn c14 hf
      refine nd_aload_n (j := 1) dX2_named_38 rfl rfl ?_
      refine nd_iconst (v := 5) dX2_named_39 (by decide) ?_
      refine nd_aload_n (j := 1) dX2_named_40 rfl rfl ?_
      refine nd_getI (k := 2) dX2_named_41 k_this rfl (Nat.le_of_ble_eq_true rfl) (nd_flO q145) rfl ?_
      replace hf := caE hf
      obtain ⟨v17, h16, e_h16, hf⟩ := hf
      refine nd_Vr [] (tX2_noType l w hfl F d k_this e_h16) rfl dX2_named_44 mw_X2_noType (Or.inl q382) k_this rfl q384 qs7 (by omega) (by omega) (Nat.le_of_ble_eq_true rfl) (fun ok18 => ?_)
      have ok_v17 : ∀ b, v17 = some b → [6, 7, 8, 9, 11, 12].contains (nd_Kd b) = true := fun b q => okT99 (ok18 b q)
      cases hf
      exact nd_aret (fun b e => okT99' (ok_v17 b e)) dX2_named_47
def fX14_become (F d : Nat) (this : Nat) (p0 : Int32) (p1 : Int32) (p2 : Int32) (h : Hp) : Option (Hp) :=
  ck (isB p0) (
  bn (sI h 1400 this p0) fun h1 => (
  bn (sI h1 1401 this p1) fun h3 => (
  bn (sI h3 1402 this p2) fun h4 => (
  some h4))))
set_option maxHeartbeats 4000000 in
theorem tX14_become (l : Launch) (w : Wd) (hfl : l.stackTraces = false) (F d : Nat) {this : Nat} {p0 : Int32} {p1 : Int32} {p2 : Int32} (k_this : nd_Kd this = 10) {h : Hp} {r : Hp} (hf : fX14_become F d this p0 p1 p2 h = some r) : nd_C l w yX14_become cX14_become 4 none 0 0 [vr (some this), vi p0, vi p1, vi p2] h (.inl none, r) := by
  refine nd_start (as := [vr (some this), vi p0, vi p1, vi p2]) hfl (by decide) (Nat.le_of_ble_eq_true rfl) ?_
  unfold fX14_become at hf
  refine nd_eqL (L' := [(0, vr (some this)), (1, vi p0), (2, vi p1), (3, vi p2)]) rfl ?_
  refine nd_aload_n (j := 0) dX14_become_0 rfl rfl ?_
  refine nd_iload_n (j := 1) dX14_become_1 rfl rfl ?_
  replace hf := ckE hf
  obtain ⟨c2, hf⟩ := hf
  refine nd_putZ (k := 0) c2 dX14_become_2 k_this rfl (Nat.le_of_ble_eq_true rfl) (nd_flO q595) rfl rfl rfl ?_
  replace hf := bnE hf
  obtain ⟨h1, e_h1, hf⟩ := hf
  refine nd_hp e_h1 ?_
  refine nd_aload_n (j := 0) dX14_become_5 rfl rfl ?_
  refine nd_iload_n (j := 2) dX14_become_6 rfl rfl ?_
  refine nd_putN (k := 1) dX14_become_7 k_this rfl (Nat.le_of_ble_eq_true rfl) (nd_flO q596) rfl rfl rfl ?_
  replace hf := bnE hf
  obtain ⟨h3, e_h3, hf⟩ := hf
  refine nd_hp e_h3 ?_
  refine nd_aload_n (j := 0) dX14_become_10 rfl rfl ?_
  refine nd_iload_n (j := 3) dX14_become_11 rfl rfl ?_
  refine nd_putN (k := 2) dX14_become_12 k_this rfl (Nat.le_of_ble_eq_true rfl) (nd_flO q597) rfl rfl rfl ?_
  replace hf := bnE hf
  obtain ⟨h4, e_h4, hf⟩ := hf
  refine nd_hp e_h4 ?_
  cases hf
  exact nd_vret dX14_become_15
def fX2_bounded_54 (F d : Nat) (this : Nat) (h : Hp) : Option (Int32 × Hp) :=
  ca (fX2_wrong F d this 4 ((gI h 202 this) - 1) h) fun v2 h1 => (
  ck (isB v2) (
  some (v2, h1)))
def fX2_bounded (F d : Nat) (this : Nat) (p0 : Nat) (h : Hp) : Option (Int32 × Hp) :=
  cv (fX14_become F d p0 0 0 0 h) fun h1 => (
  ca (fX2_look F d this h1) fun v4 h3 => (
  if v4 = 40 then
  (ca (fX2_bounds F d this h3) fun v7 h6 => (
  if v7 = 0 then
  (some (0, h6))
  else
  (if (gI h6 213 this) < 0 then
  (fX2_bounded_54 F d this h6)
  else
  (if (gI h6 214 this) < (gI h6 213 this) then
  (fX2_bounded_54 F d this h6)
  else
  (if (gI h6 214 this) ≤ 20 then
  (cv (fX14_become F d p0 1 (gI h6 213 this) (gI h6 214 this) h6) fun h12 => (
  some (1, h12)))
  else
  (fX2_bounded_54 F d this h6))))))
  else
  (some (1, h3))))
set_option maxHeartbeats 4000000 in
theorem tX2_bounded_54 (l : Launch) (w : Wd) (hfl : l.stackTraces = false) (F d : Nat) (r : Int32 × Hp) (this : Nat) (k_this : nd_Kd this = 1) (h : Hp) (hf : fX2_bounded_54 F d this h = some r) : nd_V l w yX2_bounded cX2_bounded 2 (some .boolean) 3 66 (.inl (some (vi r.1)), r.2) h 54 [(0, vr (some this))] [] := by
  unfold fX2_bounded_54 at hf
  refine nd_aload_n (j := 0) dX2_bounded_54 rfl rfl ?_
  refine nd_iconst (v := 4) dX2_bounded_55 (by decide) ?_
  refine nd_aload_n (j := 0) dX2_bounded_56 rfl rfl ?_
  refine nd_getI (k := 2) dX2_bounded_57 k_this rfl (Nat.le_of_ble_eq_true rfl) (nd_flO q145) rfl ?_
  refine nd_iconst (v := 1) dX2_bounded_60 (by decide) ?_
  refine nd_isub dX2_bounded_61 ?_
  replace hf := caE hf
  obtain ⟨v2, h1, e_h1, hf⟩ := hf
  refine nd_Vi [] (tX2_wrong l w hfl F d k_this e_h1) rfl dX2_bounded_62 mw_X2_wrong (Or.inl q357) k_this rfl q359 qs3 (by omega) (by omega) (Nat.le_of_ble_eq_true rfl) ?_
  replace hf := ckE hf
  obtain ⟨c3, hf⟩ := hf
  cases hf
  exact nd_zret (v := v2) c3 dX2_bounded_65
set_option maxHeartbeats 4000000 in
theorem tX2_bounded (l : Launch) (w : Wd) (hfl : l.stackTraces = false) (F d : Nat) {this : Nat} {p0 : Nat} (k_this : nd_Kd this = 1) (k_p0 : nd_Kd p0 = 10) {h : Hp} {r : Int32 × Hp} (hf : fX2_bounded F d this p0 h = some r) : nd_C l w yX2_bounded cX2_bounded 2 (some .boolean) 3 66 [vr (some this), vr (some p0)] h (.inl (some (vi r.1)), r.2) := by
  refine nd_start (as := [vr (some this), vr (some p0)]) hfl (by decide) (Nat.le_of_ble_eq_true rfl) ?_
  unfold fX2_bounded at hf
  refine nd_eqL (L' := [(0, vr (some this)), (1, vr (some p0))]) rfl ?_
  refine nd_aload_n (j := 1) dX2_bounded_0 rfl rfl ?_
  refine nd_iconst (v := 0) dX2_bounded_1 (by decide) ?_
  refine nd_iconst (v := 0) dX2_bounded_2 (by decide) ?_
  refine nd_iconst (v := 0) dX2_bounded_3 (by decide) ?_
  replace hf := cvE hf
  obtain ⟨h1, e_h1, hf⟩ := hf
  refine nd_Vv [] (tX14_become l w hfl F d k_p0 e_h1) rfl dX2_bounded_4 mw_X14_become (Or.inl q618) k_p0 rfl q619 q620 (by omega) (by omega) (Nat.le_of_ble_eq_true rfl) ?_
  refine nd_aload_n (j := 0) dX2_bounded_7 rfl rfl ?_
  replace hf := caE hf
  obtain ⟨v4, h3, e_h3, hf⟩ := hf
  refine nd_Vi [] (tX2_look l w hfl F d k_this e_h3) rfl dX2_bounded_8 mw_X2_look (Or.inl q353) k_this rfl q355 qs2 (by omega) (by omega) (Nat.le_of_ble_eq_true rfl) ?_
  refine nd_bipush (v := 40) dX2_bounded_11 (by decide) ?_
  refine nd_icmp_eq (tgt := 18) dX2_bounded_13 (by decide) (fun c5 => ?_) (fun c5 => ?_)
  · replace hf := ifp c5 hf
    refine nd_aload_n (j := 0) dX2_bounded_18 rfl rfl ?_
    replace hf := caE hf
    obtain ⟨v7, h6, e_h6, hf⟩ := hf
    refine nd_Vi [] (tX2_bounds l w hfl F d k_this e_h6) rfl dX2_bounded_19 mw_X2_bounds (Or.inl q454) k_this rfl q456 qs10 (by omega) (by omega) (Nat.le_of_ble_eq_true rfl) ?_
    refine nd_if_ne (tgt := 27) dX2_bounded_22 (by decide) (fun c8 => ?_) (fun c8 => ?_)
    · replace hf := ifn c8 hf
      refine nd_aload_n (j := 0) dX2_bounded_27 rfl rfl ?_
      refine nd_getI (k := 13) dX2_bounded_28 k_this rfl (Nat.le_of_ble_eq_true rfl) (nd_flO q158) rfl ?_
      refine nd_if_lt (tgt := 54) dX2_bounded_31 (by decide) (fun c9 => ?_) (fun c9 => ?_)
      · replace hf := ifp c9 hf
        exact nd_loc [0] rfl (tX2_bounded_54 l w hfl F d r _ k_this _ hf)
      · replace hf := ifn c9 hf
        refine nd_aload_n (j := 0) dX2_bounded_34 rfl rfl ?_
        refine nd_getI (k := 14) dX2_bounded_35 k_this rfl (Nat.le_of_ble_eq_true rfl) (nd_flO q159) rfl ?_
        refine nd_aload_n (j := 0) dX2_bounded_38 rfl rfl ?_
        refine nd_getI (k := 13) dX2_bounded_39 k_this rfl (Nat.le_of_ble_eq_true rfl) (nd_flO q158) rfl ?_
        refine nd_icmp_lt (tgt := 54) dX2_bounded_42 (by decide) (fun c10 => ?_) (fun c10 => ?_)
        · replace hf := ifp c10 hf
          exact nd_loc [0] rfl (tX2_bounded_54 l w hfl F d r _ k_this _ hf)
        · replace hf := ifn c10 hf
          refine nd_aload_n (j := 0) dX2_bounded_45 rfl rfl ?_
          refine nd_getI (k := 14) dX2_bounded_46 k_this rfl (Nat.le_of_ble_eq_true rfl) (nd_flO q159) rfl ?_
          refine nd_bipush (v := 20) dX2_bounded_49 (by decide) ?_
          refine nd_icmp_le (tgt := 66) dX2_bounded_51 (by decide) (fun c11 => ?_) (fun c11 => ?_)
          · replace hf := ifp c11 hf
            refine nd_aload_n (j := 1) dX2_bounded_66 rfl rfl ?_
            refine nd_iconst (v := 1) dX2_bounded_67 (by decide) ?_
            refine nd_aload_n (j := 0) dX2_bounded_68 rfl rfl ?_
            refine nd_getI (k := 13) dX2_bounded_69 k_this rfl (Nat.le_of_ble_eq_true rfl) (nd_flO q158) rfl ?_
            refine nd_aload_n (j := 0) dX2_bounded_72 rfl rfl ?_
            refine nd_getI (k := 14) dX2_bounded_73 k_this rfl (Nat.le_of_ble_eq_true rfl) (nd_flO q159) rfl ?_
            replace hf := cvE hf
            obtain ⟨h12, e_h12, hf⟩ := hf
            refine nd_Vv [] (tX14_become l w hfl F d k_p0 e_h12) rfl dX2_bounded_76 mw_X14_become (Or.inl q618) k_p0 rfl q619 q620 (by omega) (by omega) (Nat.le_of_ble_eq_true rfl) ?_
            refine nd_iconst (v := 1) dX2_bounded_79 (by decide) ?_
            cases hf
            exact nd_zret (v := 1) (by decide) dX2_bounded_80
          · replace hf := ifn c11 hf
            exact nd_loc [0] rfl (tX2_bounded_54 l w hfl F d r _ k_this _ hf)
    · replace hf := ifp c8 hf
      refine nd_iconst (v := 0) dX2_bounded_25 (by decide) ?_
      cases hf
      exact nd_zret (v := 0) (by decide) dX2_bounded_26
  · replace hf := ifn c5 hf
    refine nd_iconst (v := 1) dX2_bounded_16 (by decide) ?_
    cases hf
    exact nd_zret (v := 1) (by decide) dX2_bounded_17
def fX14_init (F d : Nat) (this : Nat) (h : Hp) : Option (Hp) :=
  some h
set_option maxHeartbeats 4000000 in
theorem tX14_init (l : Launch) (w : Wd) (hfl : l.stackTraces = false) (F d : Nat) {this : Nat} (k_this : nd_Kd this = 10) {h : Hp} {r : Hp} (hf : fX14_init F d this h = some r) : nd_C l w yX14_init cX14_init 1 none 1 40 [vr (some this)] h (.inl none, r) := by
  refine nd_start (as := [vr (some this)]) hfl (by decide) (Nat.le_of_ble_eq_true rfl) ?_
  unfold fX14_init at hf
  refine nd_eqL (L' := [(0, vr (some this))]) rfl ?_
  refine nd_aload_n (j := 0) dX14_init_0 rfl rfl ?_
  refine nd_obj dX14_init_1 q594 q119 q120 (Nat.le_of_ble_eq_true rfl) (Nat.le_of_ble_eq_true rfl) ?_
  cases hf
  exact nd_vret dX14_init_4
def fX13_init (F d : Nat) (this : Nat) (h : Hp) : Option (Hp) :=
  cv (fX8_init F d this h) fun h1 => (
  bn (this + 1) fun n5 => (
  ck (fre h1 n5 10) (
  bn (nw h1 n5 3) fun h4 => (
  cv (fX14_init F d n5 h4) fun h6 => (
  bn (sP h6 1300 this (some n5)) fun h8 => (
  some h8))))))
set_option maxHeartbeats 4000000 in
theorem tX13_init (l : Launch) (w : Wd) (hfl : l.stackTraces = false) (F d : Nat) {this : Nat} (k_this : nd_Kd this = 9) {h : Hp} {r : Hp} (hf : fX13_init F d this h = some r) : nd_C l w yX13_init cX13_init 1 none 3 80 [vr (some this)] h (.inl none, r) := by
  refine nd_start (as := [vr (some this)]) hfl (by decide) (Nat.le_of_ble_eq_true rfl) ?_
  unfold fX13_init at hf
  refine nd_eqL (L' := [(0, vr (some this))]) rfl ?_
  refine nd_aload_n (j := 0) dX13_init_0 rfl rfl ?_
  replace hf := cvE hf
  obtain ⟨h1, e_h1, hf⟩ := hf
  refine nd_Iv [] (tX8_init l w hfl F d (by rw [k_this]; rfl) e_h1) rfl dX13_init_1 mw_X8_init (Or.inr ⟨_, q588⟩) q418 rfl (by omega) (by omega) (Nat.le_of_ble_eq_true rfl) ?_
  refine nd_aload_n (j := 0) dX13_init_4 rfl rfl ?_
  replace hf := bnE hf
  obtain ⟨n5, e_n5, hf⟩ := hf
  replace hf := ckE hf
  obtain ⟨c3, hf⟩ := hf
  refine nd_newO (ci := 10) (n := n5) dX13_init_5 rfl q589 q590 q99 c3 ?_
  replace hf := bnE hf
  obtain ⟨h4, e_h4, hf⟩ := hf
  refine nd_hp e_h4 ?_
  have k_n5 : nd_Kd n5 = 10 := (freE c3).2
  refine nd_dup dX13_init_8 rfl ?_
  replace hf := cvE hf
  obtain ⟨h6, e_h6, hf⟩ := hf
  refine nd_Iv [vr (some n5), vr (some this)] (tX14_init l w hfl F d k_n5 e_h6) rfl dX13_init_9 mw_X14_init (Or.inr ⟨_, q591⟩) q592 rfl (by omega) (by omega) (Nat.le_of_ble_eq_true rfl) ?_
  refine nd_putF (k := 1) (f := 1300) dX13_init_12 k_this rfl (Nat.le_of_ble_eq_true rfl) q605 rfl rfl rfl rfl rfl (fun b e => by cases e; rw [k_n5]; rfl) ?_
  replace hf := bnE hf
  obtain ⟨h8, e_h8, hf⟩ := hf
  refine nd_hp e_h8 ?_
  cases hf
  exact nd_vret dX13_init_15
def fX2_octetsAt_22 (F d : Nat) (this : Nat) (x1 : Int32) (h : Hp) : Option (Option Nat × Hp) :=
  nn (gP h 206 this) fun a2 => (
  ck (inb x1 (nd_Ln a2)) (
  bn (gR h a2 (Int32.toNatClampNeg x1)) fun o5 => (
  nn o5 fun a6 => (
  cv (fX8_marked F d a6 4 h) fun h7 => (
  nn (gP h7 206 this) fun a10 => (
  ck (inb x1 (nd_Ln a10)) (
  bn (gR h7 a10 (Int32.toNatClampNeg x1)) fun o13 => (
  nn o13 fun a14 => (
  nn (gP h7 1300 a14) fun a16 => (
  ca (fX2_bounded F d this a16 h7) fun v18 h17 => (
  if v18 = 0 then
  (some (none, h17))
  else
  (nn (gP h17 206 this) fun a21 => (
  ck (inb x1 (nd_Ln a21)) (
  bn (gR h17 a21 (Int32.toNatClampNeg x1)) fun o24 => (
  some (o24, h17))))))))))))))))
def fX2_octetsAt (F d : Nat) (this : Nat) (p0 : Int32) (h : Hp) : Option (Option Nat × Hp) :=
  nn (gP h 206 this) fun a2 => (
  ck (inb p0 (nd_Ln a2)) (
  bn (gR h a2 (Int32.toNatClampNeg p0)) fun o5 => (
  oc o5
  (nn (gP h 206 this) fun a8 => (
  bn (nd_tn 2 p0) fun n11 => (
  ck (fre h n11 9) (
  bn (nw h n11 2) fun h10 => (
  cv (fX13_init F d n11 h10) fun h12 => (
  ck (inb p0 (nd_Ln a8)) (
  bn (sR h12 a8 (Int32.toNatClampNeg p0) (some n11)) fun h15 => (
  fX2_octetsAt_22 F d this p0 h15))))))))
  (fun a6 =>
  fX2_octetsAt_22 F d this p0 h))))
set_option maxHeartbeats 4000000 in
theorem tX2_octetsAt_22 (l : Launch) (w : Wd) (hfl : l.stackTraces = false) (F d : Nat) (r : Option Nat × Hp) (this : Nat) (x1 : Int32) (k_this : nd_Kd this = 1) (h : Hp) (hf : fX2_octetsAt_22 F d this x1 h = some r) : nd_V l w yX2_octetsAt cX2_octetsAt 2 (some (.object "NotationDesk$Type")) 4 100 (.inl (some (vr r.1)), r.2) h 22 [(0, vr (some this)), (1, vi x1)] [] := by
  unfold fX2_octetsAt_22 at hf
  refine nd_aload_n (j := 0) dX2_octetsAt_22 rfl rfl ?_
  refine nd_getP (k := 6) dX2_octetsAt_23 k_this rfl (Nat.le_of_ble_eq_true rfl) (nd_flO q151) rfl (fun ok1 => ?_)
  replace hf := nnE hf
  obtain ⟨a2, e_a2, hf⟩ := hf
  refine nd_topr e_a2.symm ?_
  have k_a2 : nd_Kd a2 = 26 := nd_c1 (ok1 a2 e_a2)
  refine nd_iload_n (j := 1) dX2_octetsAt_26 rfl rfl ?_
  replace hf := ckE hf
  obtain ⟨c3, hf⟩ := hf
  refine nd_aald (t := 6) (C := "NotationDesk$Octets") dX2_octetsAt_27 k_a2 (by decide) (fun _ => rfl) c3 (fun ok4 => ?_)
  replace hf := bnE hf
  obtain ⟨o5, e_o5, hf⟩ := hf
  refine nd_topr e_o5 ?_
  have ok_o5 : ∀ b, o5 = some b → [9].contains (nd_Kd b) = true := fun b q => ok4 b (e_o5 ▸ q)
  refine nd_iconst (v := 4) dX2_octetsAt_28 (by decide) ?_
  replace hf := nnE hf
  obtain ⟨a6, e_a6, hf⟩ := hf
  have k_a6 : nd_Kd a6 = 9 := nd_c1 (ok_o5 a6 e_a6)
  subst e_a6
  replace hf := cvE hf
  obtain ⟨h7, e_h7, hf⟩ := hf
  refine nd_Uv [] (tX8_marked l w hfl F d (by rw [k_a6]; rfl) e_h7) rfl dX2_octetsAt_29 mw_X8_marked q611 k_a6 rfl q612 (Or.inl q446) q448 q613 (by decide) mw_X8_marked.2.2.2.2 (by omega) (by omega) (Nat.le_of_ble_eq_true rfl) ?_
  refine nd_aload_n (j := 0) dX2_octetsAt_32 rfl rfl ?_
  refine nd_aload_n (j := 0) dX2_octetsAt_33 rfl rfl ?_
  refine nd_getP (k := 6) dX2_octetsAt_34 k_this rfl (Nat.le_of_ble_eq_true rfl) (nd_flO q151) rfl (fun ok9 => ?_)
  replace hf := nnE hf
  obtain ⟨a10, e_a10, hf⟩ := hf
  refine nd_topr e_a10.symm ?_
  have k_a10 : nd_Kd a10 = 26 := nd_c1 (ok9 a10 e_a10)
  refine nd_iload_n (j := 1) dX2_octetsAt_37 rfl rfl ?_
  replace hf := ckE hf
  obtain ⟨c11, hf⟩ := hf
  refine nd_aald (t := 6) (C := "NotationDesk$Octets") dX2_octetsAt_38 k_a10 (by decide) (fun _ => rfl) c11 (fun ok12 => ?_)
  replace hf := bnE hf
  obtain ⟨o13, e_o13, hf⟩ := hf
  refine nd_topr e_o13 ?_
  have ok_o13 : ∀ b, o13 = some b → [9].contains (nd_Kd b) = true := fun b q => ok12 b (e_o13 ▸ q)
  replace hf := nnE hf
  obtain ⟨a14, e_a14, hf⟩ := hf
  have k_a14 : nd_Kd a14 = 9 := nd_c1 (ok_o13 a14 e_a14)
  subst e_a14
  refine nd_getP (k := 1) dX2_octetsAt_39 k_a14 rfl (Nat.le_of_ble_eq_true rfl) (nd_flN q606) rfl (fun ok15 => ?_)
  replace hf := nnE hf
  obtain ⟨a16, e_a16, hf⟩ := hf
  refine nd_topr e_a16.symm ?_
  have k_a16 : nd_Kd a16 = 10 := nd_c1 (ok15 a16 e_a16)
  replace hf := caE hf
  obtain ⟨v18, h17, e_h17, hf⟩ := hf
  refine nd_Vi [] (tX2_bounded l w hfl F d k_this k_a16 e_h17) rfl dX2_octetsAt_42 mw_X2_bounded (Or.inl q614) k_this rfl q616 qs16 (by omega) (by omega) (Nat.le_of_ble_eq_true rfl) ?_
  refine nd_if_eq (tgt := 57) dX2_octetsAt_45 (by decide) (fun c19 => ?_) (fun c19 => ?_)
  · replace hf := ifp c19 hf
    refine nd_null dX2_octetsAt_57 ?_
    cases hf
    exact nd_aret (fun b e => by cases e) dX2_octetsAt_58
  · replace hf := ifn c19 hf
    refine nd_aload_n (j := 0) dX2_octetsAt_48 rfl rfl ?_
    refine nd_getP (k := 6) dX2_octetsAt_49 k_this rfl (Nat.le_of_ble_eq_true rfl) (nd_flO q151) rfl (fun ok20 => ?_)
    replace hf := nnE hf
    obtain ⟨a21, e_a21, hf⟩ := hf
    refine nd_topr e_a21.symm ?_
    have k_a21 : nd_Kd a21 = 26 := nd_c1 (ok20 a21 e_a21)
    refine nd_iload_n (j := 1) dX2_octetsAt_52 rfl rfl ?_
    replace hf := ckE hf
    obtain ⟨c22, hf⟩ := hf
    refine nd_aald (t := 6) (C := "NotationDesk$Octets") dX2_octetsAt_53 k_a21 (by decide) (fun _ => rfl) c22 (fun ok23 => ?_)
    replace hf := bnE hf
    obtain ⟨o24, e_o24, hf⟩ := hf
    refine nd_topr e_o24 ?_
    have ok_o24 : ∀ b, o24 = some b → [9].contains (nd_Kd b) = true := fun b q => ok23 b (e_o24 ▸ q)
    refine nd_goto (tgt := 58) dX2_octetsAt_54 (by decide) ?_
    cases hf
    exact nd_aret (fun b e => okT99' (by have q := nd_c1 (ok_o24 b e); rw [q]; rfl)) dX2_octetsAt_58
set_option maxHeartbeats 4000000 in
theorem tX2_octetsAt (l : Launch) (w : Wd) (hfl : l.stackTraces = false) (F d : Nat) {this : Nat} {p0 : Int32} (k_this : nd_Kd this = 1) {h : Hp} {r : Option Nat × Hp} (hf : fX2_octetsAt F d this p0 h = some r) : nd_C l w yX2_octetsAt cX2_octetsAt 2 (some (.object "NotationDesk$Type")) 4 100 [vr (some this), vi p0] h (.inl (some (vr r.1)), r.2) := by
  refine nd_start (as := [vr (some this), vi p0]) hfl (by decide) (Nat.le_of_ble_eq_true rfl) ?_
  unfold fX2_octetsAt at hf
  refine nd_eqL (L' := [(0, vr (some this)), (1, vi p0)]) rfl ?_
  refine nd_aload_n (j := 0) dX2_octetsAt_0 rfl rfl ?_
  refine nd_getP (k := 6) dX2_octetsAt_1 k_this rfl (Nat.le_of_ble_eq_true rfl) (nd_flO q151) rfl (fun ok1 => ?_)
  replace hf := nnE hf
  obtain ⟨a2, e_a2, hf⟩ := hf
  refine nd_topr e_a2.symm ?_
  have k_a2 : nd_Kd a2 = 26 := nd_c1 (ok1 a2 e_a2)
  refine nd_iload_n (j := 1) dX2_octetsAt_4 rfl rfl ?_
  replace hf := ckE hf
  obtain ⟨c3, hf⟩ := hf
  refine nd_aald (t := 6) (C := "NotationDesk$Octets") dX2_octetsAt_5 k_a2 (by decide) (fun _ => rfl) c3 (fun ok4 => ?_)
  replace hf := bnE hf
  obtain ⟨o5, e_o5, hf⟩ := hf
  refine nd_topr e_o5 ?_
  have ok_o5 : ∀ b, o5 = some b → [9].contains (nd_Kd b) = true := fun b q => ok4 b (e_o5 ▸ q)
  refine nd_ifnonnull (tgt := 22) dX2_octetsAt_6 (by decide) (fun e_a6 => ?_) (fun a6 e_a6 => ?_)
  · replace hf := ocN e_a6 hf
    subst e_a6
    refine nd_aload_n (j := 0) dX2_octetsAt_9 rfl rfl ?_
    refine nd_getP (k := 6) dX2_octetsAt_10 k_this rfl (Nat.le_of_ble_eq_true rfl) (nd_flO q151) rfl (fun ok7 => ?_)
    replace hf := nnE hf
    obtain ⟨a8, e_a8, hf⟩ := hf
    refine nd_topr e_a8.symm ?_
    have k_a8 : nd_Kd a8 = 26 := nd_c1 (ok7 a8 e_a8)
    refine nd_iload_n (j := 1) dX2_octetsAt_13 rfl rfl ?_
    replace hf := bnE hf
    obtain ⟨n11, e_n11, hf⟩ := hf
    replace hf := ckE hf
    obtain ⟨c9, hf⟩ := hf
    refine nd_newO (ci := 9) (n := n11) dX2_octetsAt_14 rfl q131 q584 q98 c9 ?_
    replace hf := bnE hf
    obtain ⟨h10, e_h10, hf⟩ := hf
    refine nd_hp e_h10 ?_
    have k_n11 : nd_Kd n11 = 9 := (freE c9).2
    refine nd_dup dX2_octetsAt_17 rfl ?_
    replace hf := cvE hf
    obtain ⟨h12, e_h12, hf⟩ := hf
    refine nd_Iv [vr (some n11), vi p0, vr (some a8)] (tX13_init l w hfl F d k_n11 e_h12) rfl dX2_octetsAt_18 mw_X13_init (Or.inr ⟨_, q585⟩) q586 rfl (by omega) (by omega) (Nat.le_of_ble_eq_true rfl) ?_
    replace hf := ckE hf
    obtain ⟨c14, hf⟩ := hf
    refine nd_aast (t := 6) (C := "NotationDesk$Octets") dX2_octetsAt_21 k_a8 (by decide) (fun _ => rfl) c14 (fun b e => by cases e; exact nd_asX6 k_n11) ?_
    replace hf := bnE hf
    obtain ⟨h15, e_h15, hf⟩ := hf
    refine nd_hp e_h15 ?_
    exact nd_loc [0, 1] rfl (tX2_octetsAt_22 l w hfl F d r _ _ k_this _ hf)
  · replace hf := ocS e_a6 hf
    have k_a6 : nd_Kd a6 = 9 := nd_c1 (ok_o5 a6 e_a6)
    subst e_a6
    exact nd_loc [0, 1] rfl (tX2_octetsAt_22 l w hfl F d r _ _ k_this _ hf)
def fX1_outside (F d : Nat) (p0 : Int32) (p1 : Int32) (p2 : Int32) (h : Hp) : Option (Int32 × Hp) :=
  if p0 < p1 then
  (some (1, h))
  else
  (if p0 ≤ p2 then
  (some (0, h))
  else
  (some (1, h)))
set_option maxHeartbeats 4000000 in
theorem tX1_outside (l : Launch) (w : Wd) (hfl : l.stackTraces = false) (F d : Nat) {p0 : Int32} {p1 : Int32} {p2 : Int32}  {h : Hp} {r : Int32 × Hp} (hf : fX1_outside F d p0 p1 p2 h = some r) : nd_C l w yX1_outside cX1_outside 3 (some .boolean) 0 0 [vi p0, vi p1, vi p2] h (.inl (some (vi r.1)), r.2) := by
  refine nd_start (as := [vi p0, vi p1, vi p2]) hfl (by decide) (Nat.le_of_ble_eq_true rfl) ?_
  unfold fX1_outside at hf
  refine nd_eqL (L' := [(0, vi p0), (1, vi p1), (2, vi p2)]) rfl ?_
  refine nd_iload_n (j := 0) dX1_outside_0 rfl rfl ?_
  refine nd_iload_n (j := 1) dX1_outside_1 rfl rfl ?_
  refine nd_icmp_lt (tgt := 10) dX1_outside_2 (by decide) (fun c1 => ?_) (fun c1 => ?_)
  · replace hf := ifp c1 hf
    refine nd_iconst (v := 1) dX1_outside_10 (by decide) ?_
    refine nd_goto (tgt := 15) dX1_outside_11 (by decide) ?_
    cases hf
    exact nd_zret (v := 1) (by decide) dX1_outside_15
  · replace hf := ifn c1 hf
    refine nd_iload_n (j := 0) dX1_outside_5 rfl rfl ?_
    refine nd_iload_n (j := 2) dX1_outside_6 rfl rfl ?_
    refine nd_icmp_le (tgt := 14) dX1_outside_7 (by decide) (fun c2 => ?_) (fun c2 => ?_)
    · replace hf := ifp c2 hf
      refine nd_iconst (v := 0) dX1_outside_14 (by decide) ?_
      cases hf
      exact nd_zret (v := 0) (by decide) dX1_outside_15
    · replace hf := ifn c2 hf
      refine nd_iconst (v := 1) dX1_outside_10 (by decide) ?_
      refine nd_goto (tgt := 15) dX1_outside_11 (by decide) ?_
      cases hf
      exact nd_zret (v := 1) (by decide) dX1_outside_15
def fX9_isRight (F d : Nat) (this : Nat) (p0 : Int32) (h : Hp) : Option (Int32 × Hp) :=
  if (gI h 901 this) = 0 then
  (some (1, h))
  else
  (ca (fX1_outside F d p0 (gI h 902 this) (gI h 903 this) h) fun v3 h2 => (
  if v3 = 0 then
  (some (1, h2))
  else
  (some (0, h2))))
set_option maxHeartbeats 4000000 in
theorem tX9_isRight (l : Launch) (w : Wd) (hfl : l.stackTraces = false) (F d : Nat) {this : Nat} {p0 : Int32} (k_this : nd_Kd this = 6) {h : Hp} {r : Int32 × Hp} (hf : fX9_isRight F d this p0 h = some r) : nd_C l w yX9_isRight cX9_isRight 2 (some .boolean) 1 22 [vr (some this), vi p0] h (.inl (some (vi r.1)), r.2) := by
  refine nd_start (as := [vr (some this), vi p0]) hfl (by decide) (Nat.le_of_ble_eq_true rfl) ?_
  unfold fX9_isRight at hf
  refine nd_eqL (L' := [(0, vr (some this)), (1, vi p0)]) rfl ?_
  refine nd_aload_n (j := 0) dX9_isRight_0 rfl rfl ?_
  refine nd_getI (k := 2) dX9_isRight_1 k_this rfl (Nat.le_of_ble_eq_true rfl) (nd_flO q425) rfl ?_
  refine nd_if_eq (tgt := 22) dX9_isRight_4 (by decide) (fun c1 => ?_) (fun c1 => ?_)
  · replace hf := ifp c1 hf
    refine nd_iconst (v := 1) dX9_isRight_22 (by decide) ?_
    refine nd_goto (tgt := 27) dX9_isRight_23 (by decide) ?_
    cases hf
    exact nd_zret (v := 1) (by decide) dX9_isRight_27
  · replace hf := ifn c1 hf
    refine nd_iload_n (j := 1) dX9_isRight_7 rfl rfl ?_
    refine nd_aload_n (j := 0) dX9_isRight_8 rfl rfl ?_
    refine nd_getI (k := 3) dX9_isRight_9 k_this rfl (Nat.le_of_ble_eq_true rfl) (nd_flO q426) rfl ?_
    refine nd_aload_n (j := 0) dX9_isRight_12 rfl rfl ?_
    refine nd_getI (k := 4) dX9_isRight_13 k_this rfl (Nat.le_of_ble_eq_true rfl) (nd_flO q427) rfl ?_
    replace hf := caE hf
    obtain ⟨v3, h2, e_h2, hf⟩ := hf
    refine nd_Si [] (tX1_outside l w hfl F d e_h2) rfl dX9_isRight_16 mw_X1_outside (Or.inr ⟨_, q515⟩) q516 (by omega) (by omega) (Nat.le_of_ble_eq_true rfl) ?_
    refine nd_if_ne (tgt := 26) dX9_isRight_19 (by decide) (fun c4 => ?_) (fun c4 => ?_)
    · replace hf := ifn c4 hf
      refine nd_iconst (v := 0) dX9_isRight_26 (by decide) ?_
      cases hf
      exact nd_zret (v := 0) (by decide) dX9_isRight_27
    · replace hf := ifp c4 hf
      refine nd_iconst (v := 1) dX9_isRight_22 (by decide) ?_
      refine nd_goto (tgt := 27) dX9_isRight_23 (by decide) ?_
      cases hf
      exact nd_zret (v := 1) (by decide) dX9_isRight_27
def fX9_holds (F d : Nat) (this : Nat) (p0 : Int32) (h : Hp) : Option (Int32 × Hp) :=
  if (gI h 900 this) = 5 then
  (some (0, h))
  else
  (ca (fX9_isRight F d this p0 h) fun v3 h2 => (
  if v3 = 0 then
  (some (0, h2))
  else
  (some (1, h2))))
set_option maxHeartbeats 4000000 in
theorem tX9_holds (l : Launch) (w : Wd) (hfl : l.stackTraces = false) (F d : Nat) {this : Nat} {p0 : Int32} (k_this : nd_Kd this = 6) {h : Hp} {r : Int32 × Hp} (hf : fX9_holds F d this p0 h = some r) : nd_C l w yX9_holds cX9_holds 2 (some .boolean) 2 43 [vr (some this), vi p0] h (.inl (some (vi r.1)), r.2) := by
  refine nd_start (as := [vr (some this), vi p0]) hfl (by decide) (Nat.le_of_ble_eq_true rfl) ?_
  unfold fX9_holds at hf
  refine nd_eqL (L' := [(0, vr (some this)), (1, vi p0)]) rfl ?_
  refine nd_aload_n (j := 0) dX9_holds_0 rfl rfl ?_
  refine nd_getI (k := 1) dX9_holds_1 k_this rfl (Nat.le_of_ble_eq_true rfl) (nd_flO q424) rfl ?_
  refine nd_iconst (v := 5) dX9_holds_4 (by decide) ?_
  refine nd_icmp_eq (tgt := 20) dX9_holds_5 (by decide) (fun c1 => ?_) (fun c1 => ?_)
  · replace hf := ifp c1 hf
    refine nd_iconst (v := 0) dX9_holds_20 (by decide) ?_
    cases hf
    exact nd_zret (v := 0) (by decide) dX9_holds_21
  · replace hf := ifn c1 hf
    refine nd_aload_n (j := 0) dX9_holds_8 rfl rfl ?_
    refine nd_iload_n (j := 1) dX9_holds_9 rfl rfl ?_
    replace hf := caE hf
    obtain ⟨v3, h2, e_h2, hf⟩ := hf
    refine nd_Vi [] (tX9_isRight l w hfl F d k_this e_h2) rfl dX9_holds_10 mw_X9_isRight (Or.inl q511) k_this rfl q513 qs13 (by omega) (by omega) (Nat.le_of_ble_eq_true rfl) ?_
    refine nd_if_eq (tgt := 20) dX9_holds_13 (by decide) (fun c4 => ?_) (fun c4 => ?_)
    · replace hf := ifp c4 hf
      refine nd_iconst (v := 0) dX9_holds_20 (by decide) ?_
      cases hf
      exact nd_zret (v := 0) (by decide) dX9_holds_21
    · replace hf := ifn c4 hf
      refine nd_iconst (v := 1) dX9_holds_16 (by decide) ?_
      refine nd_goto (tgt := 21) dX9_holds_17 (by decide) ?_
      cases hf
      exact nd_zret (v := 1) (by decide) dX9_holds_21
def fX16_holds (F d : Nat) (R_holds : Nat → Int32 → Hp → Option (Int32 × Hp)) (this : Nat) (p0 : Int32) (h : Hp) : Option (Int32 × Hp) :=
  nn (gP h 1602 this) fun a2 => (
  ca (R_holds a2 p0 h) fun v4 h3 => (
  ck (isB v4) (
  some (v4, h3))))
set_option maxHeartbeats 4000000 in
theorem tX16_holds (l : Launch) (w : Wd) (hfl : l.stackTraces = false) (F d : Nat) (R_holds : Nat → Int32 → Hp → Option (Int32 × Hp)) (hR_holds : ∀ {b : Nat} {p0 : Int32} (k_b : [6, 7, 8, 9, 11, 12].contains (nd_Kd b) = true) {h : Hp} {r : Int32 × Hp}, R_holds b p0 h = some r → nc_holds l w b (1 + 8 * d) (30 + 400 * d) [vr (some b), vi p0] h (.inl (some (vi r.1)), r.2)) {this : Nat} {p0 : Int32} (k_this : nd_Kd this = 12) {h : Hp} {r : Int32 × Hp} (hf : fX16_holds F d R_holds this p0 h = some r) : nd_C l w yX16_holds cX16_holds 2 (some .boolean) (2 + 8 * d) (51 + 400 * d) [vr (some this), vi p0] h (.inl (some (vi r.1)), r.2) := by
  refine nd_start (as := [vr (some this), vi p0]) hfl (by decide) (Nat.le_of_ble_eq_true rfl) ?_
  unfold fX16_holds at hf
  refine nd_eqL (L' := [(0, vr (some this)), (1, vi p0)]) rfl ?_
  refine nd_aload_n (j := 0) dX16_holds_0 rfl rfl ?_
  refine nd_getP (k := 2) dX16_holds_1 k_this rfl (Nat.le_of_ble_eq_true rfl) (nd_flO q648) rfl (fun ok1 => ?_)
  replace hf := nnE hf
  obtain ⟨a2, e_a2, hf⟩ := hf
  refine nd_topr e_a2.symm ?_
  have k_a2 : [6, 7, 8, 9, 11, 12].contains (nd_Kd a2) = true := ok1 a2 e_a2
  refine nd_iload_n (j := 1) dX16_holds_4 rfl rfl ?_
  replace hf := caE hf
  obtain ⟨v4, h3, e_h3, hf⟩ := hf
  refine nd_v_holds [] (hR_holds k_a2 e_h3) rfl dX16_holds_5 q524 k_a2 (by omega) (by omega) (Nat.le_of_ble_eq_true rfl) ?_
  replace hf := ckE hf
  obtain ⟨c5, hf⟩ := hf
  cases hf
  exact nd_zret (v := v4) c5 dX16_holds_8
def fX7_holds (F d : Nat) (this : Nat) (p0 : Int32) (h : Hp) : Option (Int32 × Hp) :=
  some (0, h)
set_option maxHeartbeats 4000000 in
theorem tX7_holds (l : Launch) (w : Wd) (hfl : l.stackTraces = false) (F d : Nat) {this : Nat} {p0 : Int32} (k_this : [6, 7, 8, 9, 11, 12].contains (nd_Kd this) = true) {h : Hp} {r : Int32 × Hp} (hf : fX7_holds F d this p0 h = some r) : nd_C l w yX7_holds cX7_holds 2 (some .boolean) 0 0 [vr (some this), vi p0] h (.inl (some (vi r.1)), r.2) := by
  refine nd_start (as := [vr (some this), vi p0]) hfl (by decide) (Nat.le_of_ble_eq_true rfl) ?_
  unfold fX7_holds at hf
  refine nd_eqL (L' := [(0, vr (some this)), (1, vi p0)]) rfl ?_
  refine nd_iconst (v := 0) dX7_holds_0 (by decide) ?_
  cases hf
  exact nd_zret (v := 0) (by decide) dX7_holds_1
def v_holds (F : Nat) : Nat → Nat → Int32 → Hp → Option (Int32 × Hp)
  | 0, _, _, _ => none
  | d + 1, b, p0, h =>
    if nd_Kd b = 6 then fX9_holds F d b p0 h
    else if nd_Kd b = 7 then fX7_holds F d b p0 h
    else if nd_Kd b = 8 then fX7_holds F d b p0 h
    else if nd_Kd b = 9 then fX7_holds F d b p0 h
    else if nd_Kd b = 11 then fX7_holds F d b p0 h
    else if nd_Kd b = 12 then fX16_holds F d (v_holds F d) b p0 h
    else none
set_option maxHeartbeats 4000000 in
theorem tv_holds (l : Launch) (w : Wd) (hfl : l.stackTraces = false) (F : Nat) : ∀ (d : Nat) {b : Nat} {p0 : Int32} (k_b : [6, 7, 8, 9, 11, 12].contains (nd_Kd b) = true) {h : Hp} {r : Int32 × Hp}, v_holds F d b p0 h = some r → nc_holds l w b (1 + 8 * d) (30 + 400 * d) [vr (some b), vi p0] h (.inl (some (vi r.1)), r.2) := by
  intro d
  induction d with
  | zero => intro b p0 k_b h r hf; cases hf
  | succ d ih =>
    intro b p0 k_b h r hf
    unfold v_holds at hf
    refine ⟨fun e_ => ?_, fun e_ => ?_, fun e_ => ?_, fun e_ => ?_, fun e_ => ?_, fun e_ => ?_⟩
    · rw [if_pos e_] at hf
      exact nd_C.room (tX9_holds l w hfl F d e_ hf) (by omega) (by omega)
    · rw [if_neg (by omega)] at hf; rw [if_pos e_] at hf
      exact nd_C.room (tX7_holds l w hfl F d (by rw [e_]; rfl) hf) (by omega) (by omega)
    · rw [if_neg (by omega)] at hf; rw [if_neg (by omega)] at hf; rw [if_pos e_] at hf
      exact nd_C.room (tX7_holds l w hfl F d (by rw [e_]; rfl) hf) (by omega) (by omega)
    · rw [if_neg (by omega)] at hf; rw [if_neg (by omega)] at hf; rw [if_neg (by omega)] at hf; rw [if_pos e_] at hf
      exact nd_C.room (tX7_holds l w hfl F d (by rw [e_]; rfl) hf) (by omega) (by omega)
    · rw [if_neg (by omega)] at hf; rw [if_neg (by omega)] at hf; rw [if_neg (by omega)] at hf; rw [if_neg (by omega)] at hf; rw [if_pos e_] at hf
      exact nd_C.room (tX7_holds l w hfl F d (by rw [e_]; rfl) hf) (by omega) (by omega)
    · rw [if_neg (by omega)] at hf; rw [if_neg (by omega)] at hf; rw [if_neg (by omega)] at hf; rw [if_neg (by omega)] at hf; rw [if_neg (by omega)] at hf; rw [if_pos e_] at hf
      exact nd_C.room (tX16_holds l w hfl F d (v_holds F d) (ih) e_ hf) (by omega) (by omega)
