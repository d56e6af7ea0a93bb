set_option maxRecDepth 100000
theorem hd_X0_at : (parseMethodDescriptor yX0_at.desc).map (fun d => d.parameters.length) = some 3 := by decide +kernel
def fX0_at (F d : Nat) (p0 : Nat) (p1 : Int32) (p2 : Nat) (h : Hp) : Option (Int32 × Hp) :=
  cy (fX1_at F d p0 p1 h) (fun x_ h1 => if x_ = 4 then some (1, h1) else none) fun v2 h1 => (
  ck (inb 0 (nd_Ln p2)) (
  bn (sJ h1 (Int32.toNatClampNeg 0) (Int32.toInt64 v2)) fun h4 => (
  some (0, h4))))
set_option maxHeartbeats 4000000 in
theorem tX0_at (l : Launch) (w : Wd) (hfl : l.stackTraces = false) (F d : Nat) {p0 : Nat} {p1 : Int32} {p2 : Nat} (k_p0 : nd_Kd p0 = 0) (k_p2 : nd_Kd p2 = 23) {h : Hp} {r : Int32 × Hp} (hf : fX0_at F d p0 p1 p2 h = some r) : nd_CW l w yX0_at cX0_at 4 (some .int) [(0, 9, 12, 13)] 7 121 [vr (some p0), vi p1, vr (some p2)] h (.inl (some (vi r.1)), r.2) := by
  refine nd_startW (as := [vr (some p0), vi p1, vr (some p2)]) hfl (by decide) rfl (Nat.le_of_ble_eq_true rfl) rfl ?_
  unfold fX0_at at hf
  refine nd_eqL (L' := [(0, vr (some p0)), (1, vi p1), (2, vr (some p2))]) rfl ?_
  refine nd_aload_n (j := 2) dX0_at_0 rfl rfl ?_
  refine nd_iconst (v := 0) dX0_at_1 (by decide) ?_
  refine nd_aload_n (j := 0) dX0_at_2 rfl rfl ?_
  refine nd_iload_n (j := 1) dX0_at_3 rfl rfl ?_
  replace hf := cyE hf
  rcases hf with ⟨v2, h1, e_h1, hf⟩ | ⟨x_, h1, e_h1, hf⟩
  rotate_left
  · by_cases cc_ : x_ = 4
    · subst cc_
      replace hf := ifp rfl hf
      cases hf
      exact nd_Vcatch (k := 1) (ps := []) (xe := ⟨0, 9, 12, 13⟩) (sf := []) [vi 0, vr (some p2)] (tX1_at l w hfl F d k_p0 e_h1) rfl dX0_at_4 mw_X1_at (Or.inl q768) k_p0 rfl q769 q770 (by omega) (by omega) (Nat.le_of_ble_eq_true rfl) (by decide) q688 rfl (fun z hz => by cases hz) rfl (by decide) q689 q774 (Nat.le_of_ble_eq_true rfl) (Or.inr ⟨_, dX0_at_12, rfl, rfl⟩) dX0_at_13 (by decide) dX0_at_14
    replace hf := ifn cc_ hf
    cases hf
  refine nd_Vi [vi 0, vr (some p2)] (tX1_at l w hfl F d k_p0 e_h1) rfl dX0_at_4 mw_X1_at (Or.inl q768) k_p0 rfl q769 q770 (by omega) (by omega) (Nat.le_of_ble_eq_true rfl) ?_
  refine nd_i2l dX0_at_7 ?_
  replace hf := ckE hf
  obtain ⟨c3, hf⟩ := hf
  refine nd_last dX0_at_8 k_p2 (nd_K23 _ k_p2) c3 ?_
  replace hf := bnE hf
  obtain ⟨h4, e_h4, hf⟩ := hf
  refine nd_hp e_h4 ?_
  refine nd_goto (tgt := 15) dX0_at_9 (by decide) ?_
  refine nd_iconst (v := 0) dX0_at_15 (by decide) ?_
  cases hf
  exact nd_iret (v := 0) dX0_at_16
theorem hd_X0_transcode : (parseMethodDescriptor yX0_transcode.desc).map (fun d => d.parameters.length) = some 5 := by decide +kernel
def fX0_transcode (F d : Nat) (p0 : Nat) (p1 : Int32) (p2 : Int32) (p3 : Int32) (p4 : Nat) (h : Hp) : Option (Int32 × Hp) :=
  cy (fX1_transcode F d p0 p1 p2 p3 h) (fun x_ h1 => if x_ = 0 then some (1, h1) else if x_ = 1 then some (2, h1) else if x_ = 2 then some (3, h1) else if x_ = 3 then some (4, h1) else none) fun v2 h1 => (
  ck (inb 0 (nd_Ln p4)) (
  bn (sJ h1 (Int32.toNatClampNeg 0) (Int32.toInt64 v2)) fun h4 => (
  some (0, h4))))
set_option maxHeartbeats 4000000 in
theorem tX0_transcode (l : Launch) (w : Wd) (hfl : l.stackTraces = false) (F d : Nat) {p0 : Nat} {p1 : Int32} {p2 : Int32} {p3 : Int32} {p4 : Nat} (k_p0 : nd_Kd p0 = 0) (k_p4 : nd_Kd p4 = 23) {h : Hp} {r : Int32 × Hp} (hf : fX0_transcode F d p0 p1 p2 p3 p4 h = some r) : nd_CW l w yX0_transcode cX0_transcode 6 (some .int) [(0, 12, 15, 19), (0, 12, 19, 21), (0, 12, 23, 23), (0, 12, 27, 25)] (8 + 8 * d) (148 + 400 * d) [vr (some p0), vi p1, vi p2, vi p3, vr (some p4)] h (.inl (some (vi r.1)), r.2) := by
  refine nd_startW (as := [vr (some p0), vi p1, vi p2, vi p3, vr (some p4)]) hfl (by decide) rfl (Nat.le_of_ble_eq_true rfl) rfl ?_
  unfold fX0_transcode at hf
  refine nd_eqL (L' := [(0, vr (some p0)), (1, vi p1), (2, vi p2), (3, vi p3), (4, vr (some p4))]) rfl ?_
  refine nd_aload (j := 4) dX0_transcode_0 rfl ?_
  refine nd_iconst (v := 0) dX0_transcode_2 (by decide) ?_
  refine nd_aload_n (j := 0) dX0_transcode_3 rfl rfl ?_
  refine nd_iload_n (j := 1) dX0_transcode_4 rfl rfl ?_
  refine nd_iload_n (j := 2) dX0_transcode_5 rfl rfl ?_
  refine nd_iload_n (j := 3) dX0_transcode_6 rfl rfl ?_
  replace hf := cyE hf
  rcases hf with ⟨v2, h1, e_h1, hf⟩ | ⟨x_, h1, e_h1, hf⟩
  rotate_left
  · by_cases cc_ : x_ = 0
    · subst cc_
      replace hf := ifp rfl hf
      cases hf
      exact nd_Vcatch (k := 1) (ps := []) (xe := ⟨0, 12, 15, 19⟩) (sf := [⟨0, 12, 19, 21⟩, ⟨0, 12, 23, 23⟩, ⟨0, 12, 27, 25⟩]) [vi 0, vr (some p4)] (tX1_transcode l w hfl F d k_p0 e_h1) rfl dX0_transcode_7 mw_X1_transcode (Or.inl q800) k_p0 rfl q801 q802 (by omega) (by omega) (Nat.le_of_ble_eq_true rfl) (by decide) q795 rfl (fun z hz => by cases hz) rfl (by decide) q796 q809 (Nat.le_of_ble_eq_true rfl) (Or.inl ⟨dX0_transcode_15, rfl⟩) dX0_transcode_17 (by decide) dX0_transcode_18
    replace hf := ifn cc_ hf
    by_cases cc_ : x_ = 1
    · subst cc_
      replace hf := ifp rfl hf
      cases hf
      exact nd_Vcatch (k := 2) (ps := [⟨0, 12, 15, 19⟩]) (xe := ⟨0, 12, 19, 21⟩) (sf := [⟨0, 12, 23, 23⟩, ⟨0, 12, 27, 25⟩]) [vi 0, vr (some p4)] (tX1_transcode l w hfl F d k_p0 e_h1) rfl dX0_transcode_7 mw_X1_transcode (Or.inl q800) k_p0 rfl q801 q802 (by omega) (by omega) (Nat.le_of_ble_eq_true rfl) (by decide) q795 rfl (by intro z hz; simp only [List.mem_cons, List.not_mem_nil, or_false] at hz; rcases hz with rfl; exact ⟨by decide, _, q796, List.mem_of_getElem? (i := 0) rfl⟩) rfl (by decide) q797 q828 (Nat.le_of_ble_eq_true rfl) (Or.inl ⟨dX0_transcode_19, rfl⟩) dX0_transcode_21 (by decide) dX0_transcode_22
    replace hf := ifn cc_ hf
    by_cases cc_ : x_ = 2
    · subst cc_
      replace hf := ifp rfl hf
      cases hf
      exact nd_Vcatch (k := 3) (ps := [⟨0, 12, 15, 19⟩, ⟨0, 12, 19, 21⟩]) (xe := ⟨0, 12, 23, 23⟩) (sf := [⟨0, 12, 27, 25⟩]) [vi 0, vr (some p4)] (tX1_transcode l w hfl F d k_p0 e_h1) rfl dX0_transcode_7 mw_X1_transcode (Or.inl q800) k_p0 rfl q801 q802 (by omega) (by omega) (Nat.le_of_ble_eq_true rfl) (by decide) q795 rfl (by
            intro z hz
            simp only [List.mem_cons, List.not_mem_nil, or_false] at hz
            rcases hz with rfl | rfl
            · exact ⟨by decide, _, q796, List.mem_of_getElem? (i := 1) rfl⟩
            · exact ⟨by decide, _, q797, List.mem_of_getElem? (i := 2) rfl⟩) rfl (by decide) q798 q843 (Nat.le_of_ble_eq_true rfl) (Or.inl ⟨dX0_transcode_23, rfl⟩) dX0_transcode_25 (by decide) dX0_transcode_26
    replace hf := ifn cc_ hf
    by_cases cc_ : x_ = 3
    · subst cc_
      replace hf := ifp rfl hf
      cases hf
      exact nd_Vcatch (k := 4) (ps := [⟨0, 12, 15, 19⟩, ⟨0, 12, 19, 21⟩, ⟨0, 12, 23, 23⟩]) (xe := ⟨0, 12, 27, 25⟩) (sf := []) [vi 0, vr (some p4)] (tX1_transcode l w hfl F d k_p0 e_h1) rfl dX0_transcode_7 mw_X1_transcode (Or.inl q800) k_p0 rfl q801 q802 (by omega) (by omega) (Nat.le_of_ble_eq_true rfl) (by decide) q795 rfl (by
            intro z hz
            simp only [List.mem_cons, List.not_mem_nil, or_false] at hz
            rcases hz with rfl | rfl | rfl
            · exact ⟨by decide, _, q796, List.mem_of_getElem? (i := 3) rfl⟩
            · exact ⟨by decide, _, q797, List.mem_of_getElem? (i := 4) rfl⟩
            · exact ⟨by decide, _, q798, List.mem_of_getElem? (i := 5) rfl⟩) rfl (by decide) q799 q1273 (Nat.le_of_ble_eq_true rfl) (Or.inl ⟨dX0_transcode_27, rfl⟩) dX0_transcode_29 (by decide) dX0_transcode_30
    replace hf := ifn cc_ hf
    cases hf
  refine nd_Vi [vi 0, vr (some p4)] (tX1_transcode l w hfl F d k_p0 e_h1) rfl dX0_transcode_7 mw_X1_transcode (Or.inl q800) k_p0 rfl q801 q802 (by omega) (by omega) (Nat.le_of_ble_eq_true rfl) ?_
  refine nd_i2l dX0_transcode_10 ?_
  replace hf := ckE hf
  obtain ⟨c3, hf⟩ := hf
  refine nd_last dX0_transcode_11 k_p4 (nd_K23 _ k_p4) c3 ?_
  replace hf := bnE hf
  obtain ⟨h4, e_h4, hf⟩ := hf
  refine nd_hp e_h4 ?_
  refine nd_goto (tgt := 31) dX0_transcode_12 (by decide) ?_
  refine nd_iconst (v := 0) dX0_transcode_31 (by decide) ?_
  cases hf
  exact nd_iret (v := 0) dX0_transcode_32
theorem hd_X0_part : (parseMethodDescriptor yX0_part.desc).map (fun d => d.parameters.length) = some 4 := by decide +kernel
def fX0_part (F d : Nat) (p0 : Nat) (p1 : Int32) (p2 : Int32) (p3 : Nat) (h : Hp) : Option (Int32 × Hp) :=
  cy (fX1_part F d p0 p1 p2 h) (fun x_ h1 => if x_ = 0 then some (1, h1) else if x_ = 2 then some (2, h1) else none) fun v2 h1 => (
  ck (inb 0 (nd_Ln p3)) (
  bn (sJ h1 (Int32.toNatClampNeg 0) (Int32.toInt64 v2)) fun h4 => (
  some (0, h4))))
set_option maxHeartbeats 4000000 in
theorem tX0_part (l : Launch) (w : Wd) (hfl : l.stackTraces = false) (F d : Nat) {p0 : Nat} {p1 : Int32} {p2 : Int32} {p3 : Nat} (k_p0 : nd_Kd p0 = 0) (k_p3 : nd_Kd p3 = 23) {h : Hp} {r : Int32 × Hp} (hf : fX0_part F d p0 p1 p2 p3 h = some r) : nd_CW l w yX0_part cX0_part 5 (some .int) [(0, 10, 13, 19), (0, 10, 17, 23)] 8 144 [vr (some p0), vi p1, vi p2, vr (some p3)] h (.inl (some (vi r.1)), r.2) := by
  refine nd_startW (as := [vr (some p0), vi p1, vi p2, vr (some p3)]) hfl (by decide) rfl (Nat.le_of_ble_eq_true rfl) rfl ?_
  unfold fX0_part at hf
  refine nd_eqL (L' := [(0, vr (some p0)), (1, vi p1), (2, vi p2), (3, vr (some p3))]) rfl ?_
  refine nd_aload_n (j := 3) dX0_part_0 rfl rfl ?_
  refine nd_iconst (v := 0) dX0_part_1 (by decide) ?_
  refine nd_aload_n (j := 0) dX0_part_2 rfl rfl ?_
  refine nd_iload_n (j := 1) dX0_part_3 rfl rfl ?_
  refine nd_iload_n (j := 2) dX0_part_4 rfl rfl ?_
  replace hf := cyE hf
  rcases hf with ⟨v2, h1, e_h1, hf⟩ | ⟨x_, h1, e_h1, hf⟩
  rotate_left
  · by_cases cc_ : x_ = 0
    · subst cc_
      replace hf := ifp rfl hf
      cases hf
      exact nd_Vcatch (k := 1) (ps := []) (xe := ⟨0, 10, 13, 19⟩) (sf := [⟨0, 10, 17, 23⟩]) [vi 0, vr (some p3)] (tX1_part l w hfl F d k_p0 e_h1) rfl dX0_part_5 mw_X1_part (Or.inl q1297) k_p0 rfl q1298 q1299 (by omega) (by omega) (Nat.le_of_ble_eq_true rfl) (by decide) q1296 rfl (fun z hz => by cases hz) rfl (by decide) q796 q809 (Nat.le_of_ble_eq_true rfl) (Or.inl ⟨dX0_part_13, rfl⟩) dX0_part_15 (by decide) dX0_part_16
    replace hf := ifn cc_ hf
    by_cases cc_ : x_ = 2
    · subst cc_
      replace hf := ifp rfl hf
      cases hf
      exact nd_Vcatch (k := 2) (ps := [⟨0, 10, 13, 19⟩]) (xe := ⟨0, 10, 17, 23⟩) (sf := []) [vi 0, vr (some p3)] (tX1_part l w hfl F d k_p0 e_h1) rfl dX0_part_5 mw_X1_part (Or.inl q1297) k_p0 rfl q1298 q1299 (by omega) (by omega) (Nat.le_of_ble_eq_true rfl) (by decide) q1296 rfl (by intro z hz; simp only [List.mem_cons, List.not_mem_nil, or_false] at hz; rcases hz with rfl; exact ⟨by decide, _, q796, List.mem_of_getElem? (i := 1) rfl⟩) rfl (by decide) q798 q843 (Nat.le_of_ble_eq_true rfl) (Or.inl ⟨dX0_part_17, rfl⟩) dX0_part_19 (by decide) dX0_part_20
    replace hf := ifn cc_ hf
    cases hf
  refine nd_Vi [vi 0, vr (some p3)] (tX1_part l w hfl F d k_p0 e_h1) rfl dX0_part_5 mw_X1_part (Or.inl q1297) k_p0 rfl q1298 q1299 (by omega) (by omega) (Nat.le_of_ble_eq_true rfl) ?_
  refine nd_i2l dX0_part_8 ?_
  replace hf := ckE hf
  obtain ⟨c3, hf⟩ := hf
  refine nd_last dX0_part_9 k_p3 (nd_K23 _ k_p3) c3 ?_
  replace hf := bnE hf
  obtain ⟨h4, e_h4, hf⟩ := hf
  refine nd_hp e_h4 ?_
  refine nd_goto (tgt := 21) dX0_part_10 (by decide) ?_
  refine nd_iconst (v := 0) dX0_part_21 (by decide) ?_
  cases hf
  exact nd_iret (v := 0) dX0_part_22
theorem hd_X0_octet : (parseMethodDescriptor yX0_octet.desc).map (fun d => d.parameters.length) = some 4 := by decide +kernel
def fX0_octet (F d : Nat) (p0 : Nat) (p1 : Int32) (p2 : Int32) (p3 : Nat) (h : Hp) : Option (Int32 × Hp) :=
  cy (fX1_octet F d p0 p1 p2 h) (fun x_ h1 => if x_ = 2 then some (1, h1) else none) fun v2 h1 => (
  ck (inb 0 (nd_Ln p3)) (
  bn (sJ h1 (Int32.toNatClampNeg 0) (Int32.toInt64 v2)) fun h4 => (
  some (0, h4))))
set_option maxHeartbeats 4000000 in
theorem tX0_octet (l : Launch) (w : Wd) (hfl : l.stackTraces = false) (F d : Nat) {p0 : Nat} {p1 : Int32} {p2 : Int32} {p3 : Nat} (k_p0 : nd_Kd p0 = 0) (k_p3 : nd_Kd p3 = 23) {h : Hp} {r : Int32 × Hp} (hf : fX0_octet F d p0 p1 p2 p3 h = some r) : nd_CW l w yX0_octet cX0_octet 5 (some .int) [(0, 10, 13, 23)] 8 144 [vr (some p0), vi p1, vi p2, vr (some p3)] h (.inl (some (vi r.1)), r.2) := by
  refine nd_startW (as := [vr (some p0), vi p1, vi p2, vr (some p3)]) hfl (by decide) rfl (Nat.le_of_ble_eq_true rfl) rfl ?_
  unfold fX0_octet at hf
  refine nd_eqL (L' := [(0, vr (some p0)), (1, vi p1), (2, vi p2), (3, vr (some p3))]) rfl ?_
  refine nd_aload_n (j := 3) dX0_octet_0 rfl rfl ?_
  refine nd_iconst (v := 0) dX0_octet_1 (by decide) ?_
  refine nd_aload_n (j := 0) dX0_octet_2 rfl rfl ?_
  refine nd_iload_n (j := 1) dX0_octet_3 rfl rfl ?_
  refine nd_iload_n (j := 2) dX0_octet_4 rfl rfl ?_
  replace hf := cyE hf
  rcases hf with ⟨v2, h1, e_h1, hf⟩ | ⟨x_, h1, e_h1, hf⟩
  rotate_left
  · by_cases cc_ : x_ = 2
    · subst cc_
      replace hf := ifp rfl hf
      cases hf
      exact nd_Vcatch (k := 1) (ps := []) (xe := ⟨0, 10, 13, 23⟩) (sf := []) [vi 0, vr (some p3)] (tX1_octet l w hfl F d k_p0 e_h1) rfl dX0_octet_5 mw_X1_octet (Or.inl q1308) k_p0 rfl q1309 q1310 (by omega) (by omega) (Nat.le_of_ble_eq_true rfl) (by decide) q1307 rfl (fun z hz => by cases hz) rfl (by decide) q798 q843 (Nat.le_of_ble_eq_true rfl) (Or.inl ⟨dX0_octet_13, rfl⟩) dX0_octet_15 (by decide) dX0_octet_16
    replace hf := ifn cc_ hf
    cases hf
  refine nd_Vi [vi 0, vr (some p3)] (tX1_octet l w hfl F d k_p0 e_h1) rfl dX0_octet_5 mw_X1_octet (Or.inl q1308) k_p0 rfl q1309 q1310 (by omega) (by omega) (Nat.le_of_ble_eq_true rfl) ?_
  refine nd_i2l dX0_octet_8 ?_
  replace hf := ckE hf
  obtain ⟨c3, hf⟩ := hf
  refine nd_last dX0_octet_9 k_p3 (nd_K23 _ k_p3) c3 ?_
  replace hf := bnE hf
  obtain ⟨h4, e_h4, hf⟩ := hf
  refine nd_hp e_h4 ?_
  refine nd_goto (tgt := 17) dX0_octet_10 (by decide) ?_
  refine nd_iconst (v := 0) dX0_octet_17 (by decide) ?_
  cases hf
  exact nd_iret (v := 0) dX0_octet_18
theorem hd_X0_operation : (parseMethodDescriptor yX0_operation.desc).map (fun d => d.parameters.length) = some 5 := by decide +kernel
def fX0_operation (F d : Nat) (p0 : Nat) (p1 : Int32) (p2 : Int32) (p3 : Int32) (p4 : Int32) (h : Hp) : Option (Int32 × Hp) :=
  cy (fX1_operation F d p0 p1 p2 p3 p4 h) (fun x_ h1 => if x_ = 0 then some (1, h1) else if x_ = 1 then some (2, h1) else if x_ = 2 then some (3, h1) else none) fun _ h1 => (
  some (0, h1))
set_option maxHeartbeats 4000000 in
theorem tX0_operation (l : Launch) (w : Wd) (hfl : l.stackTraces = false) (F d : Nat) {p0 : Nat} {p1 : Int32} {p2 : Int32} {p3 : Int32} {p4 : Int32} (k_p0 : nd_Kd p0 = 0) {h : Hp} {r : Int32 × Hp} (hf : fX0_operation F d p0 p1 p2 p3 p4 h = some r) : nd_CW l w yX0_operation cX0_operation 6 (some .int) [(0, 9, 12, 19), (0, 9, 16, 21), (0, 9, 20, 23)] 8 146 [vr (some p0), vi p1, vi p2, vi p3, vi p4] h (.inl (some (vi r.1)), r.2) := by
  refine nd_startW (as := [vr (some p0), vi p1, vi p2, vi p3, vi p4]) hfl (by decide) rfl (Nat.le_of_ble_eq_true rfl) rfl ?_
  unfold fX0_operation at hf
  refine nd_eqL (L' := [(0, vr (some p0)), (1, vi p1), (2, vi p2), (3, vi p3), (4, vi p4)]) rfl ?_
  refine nd_aload_n (j := 0) dX0_operation_0 rfl rfl ?_
  refine nd_iload_n (j := 1) dX0_operation_1 rfl rfl ?_
  refine nd_iload_n (j := 2) dX0_operation_2 rfl rfl ?_
  refine nd_iload_n (j := 3) dX0_operation_3 rfl rfl ?_
  refine nd_iload (j := 4) dX0_operation_4 rfl ?_
  replace hf := cyE hf
  rcases hf with ⟨v2, h1, e_h1, hf⟩ | ⟨x_, h1, e_h1, hf⟩
  rotate_left
  · by_cases cc_ : x_ = 0
    · subst cc_
      replace hf := ifp rfl hf
      cases hf
      exact nd_Vcatch (k := 1) (ps := []) (xe := ⟨0, 9, 12, 19⟩) (sf := [⟨0, 9, 16, 21⟩, ⟨0, 9, 20, 23⟩]) [] (tX1_operation l w hfl F d k_p0 e_h1) rfl dX0_operation_6 mw_X1_operation (Or.inl q1315) k_p0 rfl q1316 q1317 (by omega) (by omega) (Nat.le_of_ble_eq_true rfl) (by decide) q1314 rfl (fun z hz => by cases hz) rfl (by decide) q796 q809 (Nat.le_of_ble_eq_true rfl) (Or.inl ⟨dX0_operation_12, rfl⟩) dX0_operation_14 (by decide) dX0_operation_15
    replace hf := ifn cc_ hf
    by_cases cc_ : x_ = 1
    · subst cc_
      replace hf := ifp rfl hf
      cases hf
      exact nd_Vcatch (k := 2) (ps := [⟨0, 9, 12, 19⟩]) (xe := ⟨0, 9, 16, 21⟩) (sf := [⟨0, 9, 20, 23⟩]) [] (tX1_operation l w hfl F d k_p0 e_h1) rfl dX0_operation_6 mw_X1_operation (Or.inl q1315) k_p0 rfl q1316 q1317 (by omega) (by omega) (Nat.le_of_ble_eq_true rfl) (by decide) q1314 rfl (by intro z hz; simp only [List.mem_cons, List.not_mem_nil, or_false] at hz; rcases hz with rfl; exact ⟨by decide, _, q796, List.mem_of_getElem? (i := 0) rfl⟩) rfl (by decide) q797 q828 (Nat.le_of_ble_eq_true rfl) (Or.inl ⟨dX0_operation_16, rfl⟩) dX0_operation_18 (by decide) dX0_operation_19
    replace hf := ifn cc_ hf
    by_cases cc_ : x_ = 2
    · subst cc_
      replace hf := ifp rfl hf
      cases hf
      exact nd_Vcatch (k := 3) (ps := [⟨0, 9, 12, 19⟩, ⟨0, 9, 16, 21⟩]) (xe := ⟨0, 9, 20, 23⟩) (sf := []) [] (tX1_operation l w hfl F d k_p0 e_h1) rfl dX0_operation_6 mw_X1_operation (Or.inl q1315) k_p0 rfl q1316 q1317 (by omega) (by omega) (Nat.le_of_ble_eq_true rfl) (by decide) q1314 rfl (by
            intro z hz
            simp only [List.mem_cons, List.not_mem_nil, or_false] at hz
            rcases hz with rfl | rfl
            · exact ⟨by decide, _, q796, List.mem_of_getElem? (i := 1) rfl⟩
            · exact ⟨by decide, _, q797, List.mem_of_getElem? (i := 2) rfl⟩) rfl (by decide) q798 q843 (Nat.le_of_ble_eq_true rfl) (Or.inl ⟨dX0_operation_20, rfl⟩) dX0_operation_22 (by decide) dX0_operation_23
    replace hf := ifn cc_ hf
    cases hf
  refine nd_Vv [] (tX1_operation l w hfl F d k_p0 e_h1) rfl dX0_operation_6 mw_X1_operation (Or.inl q1315) k_p0 rfl q1316 q1317 (by omega) (by omega) (Nat.le_of_ble_eq_true rfl) ?_
  refine nd_goto (tgt := 24) dX0_operation_9 (by decide) ?_
  refine nd_iconst (v := 0) dX0_operation_24 (by decide) ?_
  cases hf
  exact nd_iret (v := 0) dX0_operation_25
theorem hd_X0_serve : (parseMethodDescriptor yX0_serve.desc).map (fun d => d.parameters.length) = some 2 := by decide +kernel
def fX0_serve (F d : Nat) (p0 : Nat) (p1 : Nat) (h : Hp) : Option (Int32 × Hp) :=
  cy (fX1_serve F d p0 h) (fun x_ h1 => if x_ = 1 then some (1, h1) else none) fun v2 h1 => (
  ck (inb 0 (nd_Ln p1)) (
  bn (sJ h1 (Int32.toNatClampNeg 0) (Int32.toInt64 v2)) fun h4 => (
  some (0, h4))))
set_option maxHeartbeats 4000000 in
theorem tX0_serve (l : Launch) (w : Wd) (hfl : l.stackTraces = false) (F d : Nat) {p0 : Nat} {p1 : Nat} (k_p0 : nd_Kd p0 = 0) (k_p1 : nd_Kd p1 = 23) {h : Hp} {r : Int32 × Hp} (hf : fX0_serve F d p0 p1 h = some r) : nd_CW l w yX0_serve cX0_serve 3 (some .int) [(0, 8, 11, 21)] (7 + 8 * d) (127 + 400 * d) [vr (some p0), vr (some p1)] h (.inl (some (vi r.1)), r.2) := by
  refine nd_startW (as := [vr (some p0), vr (some p1)]) hfl (by decide) rfl (Nat.le_of_ble_eq_true rfl) rfl ?_
  unfold fX0_serve at hf
  refine nd_eqL (L' := [(0, vr (some p0)), (1, vr (some p1))]) rfl ?_
  refine nd_aload_n (j := 1) dX0_serve_0 rfl rfl ?_
  refine nd_iconst (v := 0) dX0_serve_1 (by decide) ?_
  refine nd_aload_n (j := 0) dX0_serve_2 rfl rfl ?_
  replace hf := cyE hf
  rcases hf with ⟨v2, h1, e_h1, hf⟩ | ⟨x_, h1, e_h1, hf⟩
  rotate_left
  · by_cases cc_ : x_ = 1
    · subst cc_
      replace hf := ifp rfl hf
      cases hf
      exact nd_Vcatch (k := 1) (ps := []) (xe := ⟨0, 8, 11, 21⟩) (sf := []) [vi 0, vr (some p1)] (tX1_serve l w hfl F d k_p0 e_h1) rfl dX0_serve_3 mw_X1_serve (Or.inl q1322) k_p0 rfl q1323 q1324 (by omega) (by omega) (Nat.le_of_ble_eq_true rfl) (by decide) q1321 rfl (fun z hz => by cases hz) rfl (by decide) q797 q828 (Nat.le_of_ble_eq_true rfl) (Or.inr ⟨_, dX0_serve_11, rfl, rfl⟩) dX0_serve_12 (by decide) dX0_serve_13
    replace hf := ifn cc_ hf
    cases hf
  refine nd_Vi [vi 0, vr (some p1)] (tX1_serve l w hfl F d k_p0 e_h1) rfl dX0_serve_3 mw_X1_serve (Or.inl q1322) k_p0 rfl q1323 q1324 (by omega) (by omega) (Nat.le_of_ble_eq_true rfl) ?_
  refine nd_i2l dX0_serve_6 ?_
  replace hf := ckE hf
  obtain ⟨c3, hf⟩ := hf
  refine nd_last dX0_serve_7 k_p1 (nd_K23 _ k_p1) c3 ?_
  replace hf := bnE hf
  obtain ⟨h4, e_h4, hf⟩ := hf
  refine nd_hp e_h4 ?_
  refine nd_goto (tgt := 14) dX0_serve_8 (by decide) ?_
  refine nd_iconst (v := 0) dX0_serve_14 (by decide) ?_
  cases hf
  exact nd_iret (v := 0) dX0_serve_15
