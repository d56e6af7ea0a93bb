set_option maxRecDepth 100000
abbrev SV_given : SS := ([303, 1700, 1701, 1702, 1703], [1706, 1707, 1708], [], [300], [13])
abbrev SV_height : SS := ([], [], [], [], [])
abbrev SV_holds : SS := ([], [], [], [], [])
abbrev SV_pack : SS := ([501], [], [500], [], [])
abbrev SV_read : SS := ([303, 304, 401, 402, 407, 1700, 1701, 1702, 1703], [1706, 1707, 1708], [302, 405, 406], [300], [13])
abbrev SV_size : SS := ([], [], [], [], [])
abbrev SV_tags : SS := ([], [], [], [], [])
abbrev SV_unpack : SS := ([303, 304, 403, 1700, 1701, 1702, 1703], [1706, 1707, 1708], [302], [300], [13])
abbrev SV_write : SS := ([501], [], [500], [], [])
abbrev SV_typeOf : SS := ([202, 203, 212, 213, 214, 800, 900, 901, 902, 903, 1001, 1400, 1401, 1402, 1600, 1601], [1000, 1100, 1101, 1300, 1500, 1501, 1602], [211, 1100, 1101], [205, 206, 207, 208, 209, 210, 1000], [6, 7, 8, 9, 10, 11, 12, 20, 24])
abbrev SV_arrange : SS := ([305, 1704, 1705], [], [], [301], [])
abbrev SV_isChoice : SS := ([], [], [], [], [])
abbrev SV_readContent : SS := ([303, 304, 401, 1700, 1701, 1702, 1703], [1706, 1707, 1708], [302], [300], [13])
abbrev SV_content : SS := ([], [], [], [], [])
abbrev SV_writeContent : SS := ([501], [], [500], [], [])
abbrev S_X7_init : SS := ([], [], [], [], [])
set_option maxHeartbeats 4000000 in
theorem eX7_init (F d : Nat) {this : Nat} {h : Hp} (hx : FXs h) {r : Hp} (hf : fX7_init F d this h = some r) : FXs r ∧ EF S_X7_init h r := by
  unfold fX7_init at hf
  cases hf
  exact ⟨hx, (EF.rf (S := S_X7_init) _)⟩
abbrev S_X10_init : SS := ([], [1000], [], [], [24])
set_option maxHeartbeats 4000000 in
theorem eX10_init (F d : Nat) {this : Nat} {h : Hp} (hx : FXs h) {r : Hp} (hf : fX10_init F d this h = some r) : FXs r ∧ EF S_X10_init h r := by
  unfold fX10_init at hf
  replace hf := cvE hf
  obtain ⟨h1, e_h1, hf⟩ := hf
  have q_h1 := EFc (EF.rf (S := S_X10_init) _) (eX7_init F d hx e_h1) (by decide)
  have hx_h1 := q_h1.1
  have ef_h1 := q_h1.2
  replace hf := bnE hf
  obtain ⟨n5, e_n5, hf⟩ := hf
  replace hf := ckE hf
  obtain ⟨c3, hf⟩ := hf
  replace hf := bnE hf
  obtain ⟨h4, e_h4, hf⟩ := hf
  have hx_h4 := FX_nw hx_h1 e_h4
  have ef_h4 := EF_nw ef_h1 e_h4 (freAE c3).1 (by rw [(freAE c3).2.1]; decide) (by rw [(freAE c3).2.1]; decide) (by decide) (by rw [(freAE c3).2.1]; decide)
  replace hf := bnE hf
  obtain ⟨h6, e_h6, hf⟩ := hf
  have hx_h6 := FX_sP hx_h4 e_h6 (fun b e => by cases e; exact sa_k1000 (freAE c3).2.1 (freAE c3).2.2)
  have ef_h6 := EF_sP ef_h4 e_h6 (by decide)
  cases hf
  exact ⟨hx_h6, ef_h6⟩
abbrev S_X12_init : SS := ([], [1000], [], [], [24])
set_option maxHeartbeats 4000000 in
theorem eX12_init (F d : Nat) {this : Nat} {h : Hp} (hx : FXs h) {r : Hp} (hf : fX12_init F d this h = some r) : FXs r ∧ EF S_X12_init h r := by
  unfold fX12_init at hf
  replace hf := cvE hf
  obtain ⟨h1, e_h1, hf⟩ := hf
  have q_h1 := EFc (EF.rf (S := S_X12_init) _) (eX10_init F d hx e_h1) (by decide)
  have hx_h1 := q_h1.1
  have ef_h1 := q_h1.2
  cases hf
  exact ⟨hx_h1, ef_h1⟩
abbrev S_X12_isChoice : SS := ([], [], [], [], [])
set_option maxHeartbeats 4000000 in
theorem eX12_isChoice (F d : Nat) {this : Nat} {h : Hp} (hx : FXs h) {r : Int32 × Hp} (hf : fX12_isChoice F d this h = some r) : FXs r.2 ∧ EF S_X12_isChoice h r.2 := by
  unfold fX12_isChoice at hf
  cases hf
  exact ⟨hx, (EF.rf (S := S_X12_isChoice) _)⟩
abbrev S_X12_tags : SS := ([], [], [], [], [])
set_option maxHeartbeats 4000000 in
theorem eX12_tags_4 (F d : Nat) (R_tags : Nat → Hp → Option (Int32 × Hp)) (hE_tags : ∀ {b : Nat} {h : Hp} (_ : FXs h) {r : Int32 × Hp}, R_tags b h = some r → FXs r.2 ∧ EF SV_tags h r.2) : ∀ (n : Nat) (this : Nat) (x1 : Int32) (x2 : Int32) (h : Hp) (hx : FXs h) {r : Int32 × Hp}, fX12_tags_4 F d R_tags n this x1 x2 h = some r → FXs r.2 ∧ EF S_X12_tags h r.2 := by
  intro n
  induction n with
  | zero => intro _ _ _ _ _ r hf; cases hf
  | succ n ih =>
    intro this x1 x2 h hx r hf
    unfold fX12_tags_4 at hf
    by_cases c1 : (gI h 1001 this) ≤ x2
    · replace hf := ifp c1 hf
      cases hf
      exact ⟨hx, (EF.rf (S := S_X12_tags) _)⟩
    · replace hf := ifn c1 hf
      replace hf := nnE hf
      obtain ⟨a3, e_a3, hf⟩ := hf
      have sa_a3 := hx 1000 _ _ e_a3
      replace hf := ckE hf
      obtain ⟨c4, hf⟩ := hf
      replace hf := bnE hf
      obtain ⟨o6, e_o6, hf⟩ := hf
      replace hf := nnE hf
      obtain ⟨a7, e_a7, hf⟩ := hf
      subst e_a7
      replace hf := caE hf
      obtain ⟨v9, h8, e_h8, hf⟩ := hf
      have q_h8 := EFc (EF.rf (S := S_X12_tags) _) (hE_tags hx e_h8) (by decide)
      have hx_h8 := q_h8.1
      have ef_h8 := q_h8.2
      replace hf := bnE hf
      obtain ⟨v10, e_v10, hf⟩ := hf
      replace hf := bnE hf
      obtain ⟨v11, e_v11, hf⟩ := hf
      exact EFj ef_h8 (ih _ _ _ _ hx_h8 hf)
set_option maxHeartbeats 4000000 in
theorem eX12_tags (F d : Nat) (R_tags : Nat → Hp → Option (Int32 × Hp)) (hE_tags : ∀ {b : Nat} {h : Hp} (_ : FXs h) {r : Int32 × Hp}, R_tags b h = some r → FXs r.2 ∧ EF SV_tags h r.2) {this : Nat} {h : Hp} (hx : FXs h) {r : Int32 × Hp} (hf : fX12_tags F d R_tags this h = some r) : FXs r.2 ∧ EF S_X12_tags h r.2 := by
  unfold fX12_tags at hf
  exact EFj (EF.rf (S := S_X12_tags) _) (eX12_tags_4 F d R_tags hE_tags F _ _ _ _ hx hf)
abbrev S_X11_tags : SS := ([], [], [], [], [])
set_option maxHeartbeats 4000000 in
theorem eX11_tags (F d : Nat) {this : Nat} {h : Hp} (hx : FXs h) {r : Int32 × Hp} (hf : fX11_tags F d this h = some r) : FXs r.2 ∧ EF S_X11_tags h r.2 := by
  unfold fX11_tags at hf
  cases hf
  exact ⟨hx, (EF.rf (S := S_X11_tags) _)⟩
abbrev S_X15_tags : SS := ([], [], [], [], [])
set_option maxHeartbeats 4000000 in
theorem eX15_tags (F d : Nat) {this : Nat} {h : Hp} (hx : FXs h) {r : Int32 × Hp} (hf : fX15_tags F d this h = some r) : FXs r.2 ∧ EF S_X15_tags h r.2 := by
  unfold fX15_tags at hf
  cases hf
  exact ⟨hx, (EF.rf (S := S_X15_tags) _)⟩
abbrev S_X8_tags : SS := ([], [], [], [], [])
set_option maxHeartbeats 4000000 in
theorem eX8_tags (F d : Nat) {this : Nat} {h : Hp} (hx : FXs h) {r : Int32 × Hp} (hf : fX8_tags F d this h = some r) : FXs r.2 ∧ EF S_X8_tags h r.2 := by
  unfold fX8_tags at hf
  cases hf
  exact ⟨hx, (EF.rf (S := S_X8_tags) _)⟩
abbrev S_X16_tags : SS := ([], [], [], [], [])
set_option maxHeartbeats 4000000 in
theorem eX16_tags (F d : Nat) {this : Nat} {h : Hp} (hx : FXs h) {r : Int32 × Hp} (hf : fX16_tags F d this h = some r) : FXs r.2 ∧ EF S_X16_tags h r.2 := by
  unfold fX16_tags at hf
  cases hf
  exact ⟨hx, (EF.rf (S := S_X16_tags) _)⟩
set_option maxHeartbeats 4000000 in
theorem ev_tags (F : Nat) : ∀ (d : Nat) {b : Nat} {h : Hp} (_ : FXs h) {r : Int32 × Hp}, v_tags F d b h = some r → FXs r.2 ∧ EF SV_tags h r.2 := by
  intro d
  induction d with
  | zero => intro b h hx r hf; cases hf
  | succ d ih =>
    intro b h hx r hf
    unfold v_tags at hf
    by_cases e_ : nd_Kd b = 6
    · replace hf := ifp e_ hf
      exact EFc (EF.rf (S := SV_tags) _) (eX8_tags F d hx hf) (by decide)
    replace hf := ifn e_ hf
    by_cases e_ : nd_Kd b = 7
    · replace hf := ifp e_ hf
      exact EFc (EF.rf (S := SV_tags) _) (eX11_tags F d hx hf) (by decide)
    replace hf := ifn e_ hf
    by_cases e_ : nd_Kd b = 8
    · replace hf := ifp e_ hf
      exact EFc (EF.rf (S := SV_tags) _) (eX12_tags F d (v_tags F d) ih hx hf) (by decide)
    replace hf := ifn e_ hf
    by_cases e_ : nd_Kd b = 9
    · replace hf := ifp e_ hf
      exact EFc (EF.rf (S := SV_tags) _) (eX8_tags F d hx hf) (by decide)
    replace hf := ifn e_ hf
    by_cases e_ : nd_Kd b = 11
    · replace hf := ifp e_ hf
      exact EFc (EF.rf (S := SV_tags) _) (eX15_tags F d hx hf) (by decide)
    replace hf := ifn e_ hf
    by_cases e_ : nd_Kd b = 12
    · replace hf := ifp e_ hf
      exact EFc (EF.rf (S := SV_tags) _) (eX16_tags F d hx hf) (by decide)
    replace hf := ifn e_ hf
    cases hf
abbrev S_X12_isDistinct : SS := ([], [], [], [], [])
set_option maxHeartbeats 4000000 in
theorem eX12_isDistinct_4 (F d : Nat) : ∀ (n : Nat) (this : Nat) (x1 : Int32) (x2 : Int32) (h : Hp) (hx : FXs h) {r : Int32 × Hp}, fX12_isDistinct_4 F d n this x1 x2 h = some r → FXs r.2 ∧ EF S_X12_isDistinct h r.2 := by
  intro n
  induction n with
  | zero => intro _ _ _ _ _ r hf; cases hf
  | succ n ih =>
    intro this x1 x2 h hx r hf
    unfold fX12_isDistinct_4 at hf
    by_cases c1 : (gI h 1001 this) ≤ x2
    · replace hf := ifp c1 hf
      cases hf
      exact ⟨hx, (EF.rf (S := S_X12_isDistinct) _)⟩
    · replace hf := ifn c1 hf
      replace hf := nnE hf
      obtain ⟨a3, e_a3, hf⟩ := hf
      have sa_a3 := hx 1000 _ _ e_a3
      replace hf := ckE hf
      obtain ⟨c4, hf⟩ := hf
      replace hf := bnE hf
      obtain ⟨o6, e_o6, hf⟩ := hf
      replace hf := nnE hf
      obtain ⟨a7, e_a7, hf⟩ := hf
      subst e_a7
      replace hf := caE hf
      obtain ⟨v9, h8, e_h8, hf⟩ := hf
      have q_h8 := EFc (EF.rf (S := S_X12_isDistinct) _) (ev_tags F d hx e_h8) (by decide)
      have hx_h8 := q_h8.1
      have ef_h8 := q_h8.2
      by_cases c10 : (x1 &&& v9) = 0
      · replace hf := ifp c10 hf
        replace hf := nnE hf
        obtain ⟨a12, e_a12, hf⟩ := hf
        have sa_a12 := hx_h8 1000 _ _ e_a12
        replace hf := ckE hf
        obtain ⟨c13, hf⟩ := hf
        replace hf := bnE hf
        obtain ⟨o15, e_o15, hf⟩ := hf
        replace hf := nnE hf
        obtain ⟨a16, e_a16, hf⟩ := hf
        subst e_a16
        replace hf := caE hf
        obtain ⟨v18, h17, e_h17, hf⟩ := hf
        have q_h17 := EFc ef_h8 (ev_tags F d hx_h8 e_h17) (by decide)
        have hx_h17 := q_h17.1
        have ef_h17 := q_h17.2
        replace hf := bnE hf
        obtain ⟨v19, e_v19, hf⟩ := hf
        replace hf := bnE hf
        obtain ⟨v20, e_v20, hf⟩ := hf
        exact EFj ef_h17 (ih _ _ _ _ hx_h17 hf)
      · replace hf := ifn c10 hf
        cases hf
        exact ⟨hx_h8, ef_h8⟩
set_option maxHeartbeats 4000000 in
theorem eX12_isDistinct (F d : Nat) {this : Nat} {h : Hp} (hx : FXs h) {r : Int32 × Hp} (hf : fX12_isDistinct F d this h = some r) : FXs r.2 ∧ EF S_X12_isDistinct h r.2 := by
  unfold fX12_isDistinct at hf
  exact EFj (EF.rf (S := S_X12_isDistinct) _) (eX12_isDistinct_4 F d F _ _ _ _ hx hf)
abbrev S_X12_least : SS := ([], [], [], [], [])
set_option maxHeartbeats 4000000 in
theorem eX12_least (F d : Nat) {p0 : Int32} {h : Hp} (hx : FXs h) {r : Int32 × Hp} (hf : fX12_least F d p0 h = some r) : FXs r.2 ∧ EF S_X12_least h r.2 := by
  unfold fX12_least at hf
  cases hf
  exact ⟨hx, (EF.rf (S := S_X12_least) _)⟩
abbrev S_X12_rank : SS := ([], [], [], [], [])
set_option maxHeartbeats 4000000 in
theorem eX12_rank_45 (F d : Nat) (k_4 : Nat → Int32 → Int32 → Int32 → Hp → Option (Int32 × Hp)) (hk_4 : ∀ (this : Nat) (x1 : Int32) (x2 : Int32) (x3 : Int32) (h : Hp) (hx : FXs h) {r : Int32 × Hp}, k_4 this x1 x2 x3 h = some r → FXs r.2 ∧ EF S_X12_rank h r.2) (this : Nat) (x1 : Int32) (x3 : Int32) (s0 : Int32) (s1 : Int32) (h : Hp) (hx : FXs h) {r : Int32 × Hp} (hf : fX12_rank_45 F d k_4 this x1 x3 s0 s1 h = some r) : FXs r.2 ∧ EF S_X12_rank h r.2 := by
  unfold fX12_rank_45 at hf
  replace hf := bnE hf
  obtain ⟨v1, e_v1, hf⟩ := hf
  replace hf := bnE hf
  obtain ⟨v2, e_v2, hf⟩ := hf
  exact EFj (EF.rf (S := S_X12_rank) _) (hk_4 _ _ _ _ _ hx hf)
set_option maxHeartbeats 4000000 in
theorem eX12_rank_4 (F d : Nat) : ∀ (n : Nat) (this : Nat) (x1 : Int32) (x2 : Int32) (x3 : Int32) (h : Hp) (hx : FXs h) {r : Int32 × Hp}, fX12_rank_4 F d n this x1 x2 x3 h = some r → FXs r.2 ∧ EF S_X12_rank h r.2 := by
  intro n
  induction n with
  | zero => intro _ _ _ _ _ _ r hf; cases hf
  | succ n ih =>
    intro this x1 x2 x3 h hx r hf
    unfold fX12_rank_4 at hf
    by_cases c1 : (gI h 1001 this) ≤ x3
    · replace hf := ifp c1 hf
      cases hf
      exact ⟨hx, (EF.rf (S := S_X12_rank) _)⟩
    · replace hf := ifn c1 hf
      replace hf := nnE hf
      obtain ⟨a3, e_a3, hf⟩ := hf
      have sa_a3 := hx 1000 _ _ e_a3
      replace hf := ckE hf
      obtain ⟨c4, hf⟩ := hf
      replace hf := bnE hf
      obtain ⟨o6, e_o6, hf⟩ := hf
      replace hf := nnE hf
      obtain ⟨a7, e_a7, hf⟩ := hf
      subst e_a7
      replace hf := caE hf
      obtain ⟨v9, h8, e_h8, hf⟩ := hf
      have q_h8 := EFc (EF.rf (S := S_X12_rank) _) (ev_tags F d hx e_h8) (by decide)
      have hx_h8 := q_h8.1
      have ef_h8 := q_h8.2
      replace hf := caE hf
      obtain ⟨v11, h10, e_h10, hf⟩ := hf
      have q_h10 := EFc ef_h8 (eX12_least F d hx_h8 e_h10) (by decide)
      have hx_h10 := q_h10.1
      have ef_h10 := q_h10.2
      replace hf := nnE hf
      obtain ⟨a13, e_a13, hf⟩ := hf
      have sa_a13 := hx_h10 1000 _ _ e_a13
      replace hf := ckE hf
      obtain ⟨c14, hf⟩ := hf
      replace hf := bnE hf
      obtain ⟨o16, e_o16, hf⟩ := hf
      replace hf := nnE hf
      obtain ⟨a17, e_a17, hf⟩ := hf
      subst e_a17
      replace hf := caE hf
      obtain ⟨v19, h18, e_h18, hf⟩ := hf
      have q_h18 := EFc ef_h10 (ev_tags F d hx_h10 e_h18) (by decide)
      have hx_h18 := q_h18.1
      have ef_h18 := q_h18.2
      replace hf := caE hf
      obtain ⟨v21, h20, e_h20, hf⟩ := hf
      have q_h20 := EFc ef_h18 (eX12_least F d hx_h18 e_h20) (by decide)
      have hx_h20 := q_h20.1
      have ef_h20 := q_h20.2
      by_cases c22 : v21 ≤ v11
      · replace hf := ifp c22 hf
        exact EFj ef_h20 (eX12_rank_45 F d (fX12_rank_4 F d n) ih _ _ _ _ _ _ hx_h20 hf)
      · replace hf := ifn c22 hf
        exact EFj ef_h20 (eX12_rank_45 F d (fX12_rank_4 F d n) ih _ _ _ _ _ _ hx_h20 hf)
set_option maxHeartbeats 4000000 in
theorem eX12_rank (F d : Nat) {this : Nat} {p0 : Int32} {h : Hp} (hx : FXs h) {r : Int32 × Hp} (hf : fX12_rank F d this p0 h = some r) : FXs r.2 ∧ EF S_X12_rank h r.2 := by
  unfold fX12_rank at hf
  exact EFj (EF.rf (S := S_X12_rank) _) (eX12_rank_4 F d F _ _ _ _ _ hx hf)
abbrev S_X5_size : SS := ([], [], [], [], [])
set_option maxHeartbeats 4000000 in
theorem eX5_size (F d : Nat) {this : Nat} {h : Hp} (hx : FXs h) {r : Int32 × Hp} (hf : fX5_size F d this h = some r) : FXs r.2 ∧ EF S_X5_size h r.2 := by
  unfold fX5_size at hf
  cases hf
  exact ⟨hx, (EF.rf (S := S_X5_size) _)⟩
abbrev S_X5_align : SS := ([501], [], [], [], [])
set_option maxHeartbeats 4000000 in
theorem eX5_align (F d : Nat) {this : Nat} {h : Hp} (hx : FXs h) {r : Hp} (hf : fX5_align F d this h = some r) : FXs r ∧ EF S_X5_align h r := by
  unfold fX5_align at hf
  replace hf := caE hf
  obtain ⟨v2, h1, e_h1, hf⟩ := hf
  have q_h1 := EFc (EF.rf (S := S_X5_align) _) (eX5_size F d hx e_h1) (by decide)
  have hx_h1 := q_h1.1
  have ef_h1 := q_h1.2
  replace hf := bnE hf
  obtain ⟨h3, e_h3, hf⟩ := hf
  have hx_h3 := FX_sI hx_h1 e_h3
  have ef_h3 := EF_sI ef_h1 e_h3 (by decide)
  cases hf
  exact ⟨hx_h3, ef_h3⟩
abbrev S_X5_put : SS := ([501], [], [500], [], [])
set_option maxHeartbeats 4000000 in
theorem eX5_put_31 (F d : Nat) (k_4 : Nat → Int32 → Int32 → Hp → Option (Hp)) (hk_4 : ∀ (this : Nat) (x1 : Int32) (x3 : Int32) (h : Hp) (hx : FXs h) {r : Hp}, k_4 this x1 x3 h = some r → FXs r ∧ EF S_X5_put h r) (this : Nat) (x1 : Int32) (x3 : Int32) (h : Hp) (hx : FXs h) {r : Hp} (hf : fX5_put_31 F d k_4 this x1 x3 h = some r) : FXs r ∧ EF S_X5_put h r := by
  unfold fX5_put_31 at hf
  replace hf := nnE hf
  obtain ⟨a2, e_a2, hf⟩ := hf
  have sa_a2 := hx 500 _ _ e_a2
  replace hf := bnE hf
  obtain ⟨v3, e_v3, hf⟩ := hf
  replace hf := ckE hf
  obtain ⟨c4, hf⟩ := hf
  replace hf := bnE hf
  obtain ⟨v5, e_v5, hf⟩ := hf
  replace hf := ckE hf
  obtain ⟨c6, hf⟩ := hf
  replace hf := bnE hf
  obtain ⟨h7, e_h7, hf⟩ := hf
  have hx_h7 := FX_sA hx e_h7
  have ef_h7 := EF_sA (EF.rf (S := S_X5_put) _) e_h7 (f := 500) (by decide) sa_a2
  replace hf := bnE hf
  obtain ⟨h8, e_h8, hf⟩ := hf
  have hx_h8 := FX_sI hx_h7 e_h8
  have ef_h8 := EF_sI ef_h7 e_h8 (by decide)
  replace hf := bnE hf
  obtain ⟨v9, e_v9, hf⟩ := hf
  exact EFj ef_h8 (hk_4 _ _ _ _ hx_h8 hf)
set_option maxHeartbeats 4000000 in
theorem eX5_put_4 (F d : Nat) : ∀ (n : Nat) (this : Nat) (x1 : Int32) (x3 : Int32) (h : Hp) (hx : FXs h) {r : Hp}, fX5_put_4 F d n this x1 x3 h = some r → FXs r ∧ EF S_X5_put h r := by
  intro n
  induction n with
  | zero => intro _ _ _ _ _ r hf; cases hf
  | succ n ih =>
    intro this x1 x3 h hx r hf
    unfold fX5_put_4 at hf
    by_cases c1 : x3 < 0
    · replace hf := ifp c1 hf
      cases hf
      exact ⟨hx, (EF.rf (S := S_X5_put) _)⟩
    · replace hf := ifn c1 hf
      replace hf := bnE hf
      obtain ⟨v2, e_v2, hf⟩ := hf
      by_cases c3 : (v2 - v2 / 8 * 8) = 0
      · replace hf := ifp c3 hf
        replace hf := nnE hf
        obtain ⟨a5, e_a5, hf⟩ := hf
        have sa_a5 := hx 500 _ _ e_a5
        replace hf := ckE hf
        obtain ⟨c6, hf⟩ := hf
        replace hf := bnE hf
        obtain ⟨h7, e_h7, hf⟩ := hf
        have hx_h7 := FX_sA hx e_h7
        have ef_h7 := EF_sA (EF.rf (S := S_X5_put) _) e_h7 (f := 500) (by decide) sa_a5
        exact EFj ef_h7 (eX5_put_31 F d (fX5_put_4 F d n) ih _ _ _ _ hx_h7 hf)
      · replace hf := ifn c3 hf
        exact EFj (EF.rf (S := S_X5_put) _) (eX5_put_31 F d (fX5_put_4 F d n) ih _ _ _ _ hx hf)
set_option maxHeartbeats 4000000 in
theorem eX5_put (F d : Nat) {this : Nat} {p0 : Int32} {p1 : Int32} {h : Hp} (hx : FXs h) {r : Hp} (hf : fX5_put F d this p0 p1 h = some r) : FXs r ∧ EF S_X5_put h r := by
  unfold fX5_put at hf
  replace hf := bnE hf
  obtain ⟨v1, e_v1, hf⟩ := hf
  exact EFj (EF.rf (S := S_X5_put) _) (eX5_put_4 F d F _ _ _ _ hx hf)
abbrev S_X1_width : SS := ([], [], [], [], [])
set_option maxHeartbeats 4000000 in
theorem eX1_width_2 (F d : Nat) : ∀ (n : Nat) (x0 : Int32) (x1 : Int32) (h : Hp) (hx : FXs h) {r : Int32 × Hp}, fX1_width_2 F d n x0 x1 h = some r → FXs r.2 ∧ EF S_X1_width h r.2 := by
  intro n
  induction n with
  | zero => intro _ _ _ _ r hf; cases hf
  | succ n ih =>
    intro x0 x1 h hx r hf
    unfold fX1_width_2 at hf
    by_cases c1 : (x0 >>> (x1 &&& 31)) = 0
    · replace hf := ifp c1 hf
      cases hf
      exact ⟨hx, (EF.rf (S := S_X1_width) _)⟩
    · replace hf := ifn c1 hf
      replace hf := bnE hf
      obtain ⟨v2, e_v2, hf⟩ := hf
      exact EFj (EF.rf (S := S_X1_width) _) (ih _ _ _ hx hf)
set_option maxHeartbeats 4000000 in
theorem eX1_width (F d : Nat) {p0 : Int32} {h : Hp} (hx : FXs h) {r : Int32 × Hp} (hf : fX1_width F d p0 h = some r) : FXs r.2 ∧ EF S_X1_width h r.2 := by
  unfold fX1_width at hf
  exact EFj (EF.rf (S := S_X1_width) _) (eX1_width_2 F d F _ _ _ hx hf)
abbrev S_X5_putNumber : SS := ([501], [], [500], [], [])
set_option maxHeartbeats 4000000 in
theorem eX5_putNumber_38 (F d : Nat) (s0 : Nat) (s1 : Int32) (s2 : Int32) (h : Hp) (hx : FXs h) {r : Hp} (hf : fX5_putNumber_38 F d s0 s1 s2 h = some r) : FXs r ∧ EF S_X5_putNumber h r := by
  unfold fX5_putNumber_38 at hf
  replace hf := cvE hf
  obtain ⟨h1, e_h1, hf⟩ := hf
  have q_h1 := EFc (EF.rf (S := S_X5_putNumber) _) (eX5_put F d hx e_h1) (by decide)
  have hx_h1 := q_h1.1
  have ef_h1 := q_h1.2
  cases hf
  exact ⟨hx_h1, ef_h1⟩
set_option maxHeartbeats 4000000 in
theorem eX5_putNumber (F d : Nat) {this : Nat} {p0 : Int32} {p1 : Int32} {p2 : Int32} {h : Hp} (hx : FXs h) {r : Hp} (hf : fX5_putNumber F d this p0 p1 p2 h = some r) : FXs r ∧ EF S_X5_putNumber h r := by
  unfold fX5_putNumber at hf
  replace hf := bnE hf
  obtain ⟨v1, e_v1, hf⟩ := hf
  by_cases c2 : v1 ≤ 255
  · replace hf := ifp c2 hf
    replace hf := caE hf
    obtain ⟨v4, h3, e_h3, hf⟩ := hf
    have q_h3 := EFc (EF.rf (S := S_X5_putNumber) _) (eX1_width F d hx e_h3) (by decide)
    have hx_h3 := q_h3.1
    have ef_h3 := q_h3.2
    replace hf := cvE hf
    obtain ⟨h5, e_h5, hf⟩ := hf
    have q_h5 := EFc ef_h3 (eX5_put F d hx_h3 e_h5) (by decide)
    have hx_h5 := q_h5.1
    have ef_h5 := q_h5.2
    cases hf
    exact ⟨hx_h5, ef_h5⟩
  · replace hf := ifn c2 hf
    replace hf := cvE hf
    obtain ⟨h7, e_h7, hf⟩ := hf
    have q_h7 := EFc (EF.rf (S := S_X5_putNumber) _) (eX5_align F d hx e_h7) (by decide)
    have hx_h7 := q_h7.1
    have ef_h7 := q_h7.2
    by_cases c9 : v1 = 256
    · replace hf := ifp c9 hf
      exact EFj ef_h7 (eX5_putNumber_38 F d _ _ _ _ hx_h7 hf)
    · replace hf := ifn c9 hf
      exact EFj ef_h7 (eX5_putNumber_38 F d _ _ _ _ hx_h7 hf)
abbrev S_X12_pack : SS := ([501], [], [500], [], [])
set_option maxHeartbeats 4000000 in
theorem eX12_pack (F d : Nat) (R_pack : Nat → Nat → Nat → Hp → Option (Hp)) (hE_pack : ∀ {b : Nat} {p0 : Nat} {p1 : Nat} {h : Hp} (_ : FXs h) {r : Hp}, R_pack b p0 p1 h = some r → FXs r ∧ EF SV_pack h r) {this : Nat} {p0 : Nat} {p1 : Nat} {h : Hp} (hx : FXs h) {r : Hp} (hf : fX12_pack F d R_pack this p0 p1 h = some r) : FXs r ∧ EF S_X12_pack h r := by
  unfold fX12_pack at hf
  replace hf := caE hf
  obtain ⟨v2, h1, e_h1, hf⟩ := hf
  have q_h1 := EFc (EF.rf (S := S_X12_pack) _) (eX12_rank F d hx e_h1) (by decide)
  have hx_h1 := q_h1.1
  have ef_h1 := q_h1.2
  replace hf := cvE hf
  obtain ⟨h3, e_h3, hf⟩ := hf
  have q_h3 := EFc ef_h1 (eX5_putNumber F d hx_h1 e_h3) (by decide)
  have hx_h3 := q_h3.1
  have ef_h3 := q_h3.2
  replace hf := nnE hf
  obtain ⟨a6, e_a6, hf⟩ := hf
  have sa_a6 := hx_h3 1000 _ _ e_a6
  replace hf := ckE hf
  obtain ⟨c7, hf⟩ := hf
  replace hf := bnE hf
  obtain ⟨o9, e_o9, hf⟩ := hf
  replace hf := bnE hf
  obtain ⟨o11, e_o11, hf⟩ := hf
  replace hf := nnE hf
  obtain ⟨a12, e_a12, hf⟩ := hf
  subst e_a12
  replace hf := nnE hf
  obtain ⟨a13, e_a13, hf⟩ := hf
  subst e_a13
  replace hf := cvE hf
  obtain ⟨h14, e_h14, hf⟩ := hf
  have q_h14 := EFc ef_h3 (hE_pack hx_h3 e_h14) (by decide)
  have hx_h14 := q_h14.1
  have ef_h14 := q_h14.2
  cases hf
  exact ⟨hx_h14, ef_h14⟩
abbrev S_X17_add : SS := ([1703], [1706, 1707, 1708], [], [], [])
set_option maxHeartbeats 4000000 in
theorem eX17_add_33 (F d : Nat) (this : Nat) (x1 : Nat) (h : Hp) (hx : FXs h) {r : Hp} (hf : fX17_add_33 F d this x1 h = some r) : FXs r ∧ EF S_X17_add h r := by
  unfold fX17_add_33 at hf
  replace hf := bnE hf
  obtain ⟨h1, e_h1, hf⟩ := hf
  have hx_h1 := FX_sP hx e_h1 (fun b e => rfl)
  have ef_h1 := EF_sP (EF.rf (S := S_X17_add) _) e_h1 (by decide)
  cases hf
  exact ⟨hx_h1, ef_h1⟩
set_option maxHeartbeats 4000000 in
theorem eX17_add (F d : Nat) {this : Nat} {p0 : Nat} {p1 : Int32} {h : Hp} (hx : FXs h) {r : Hp} (hf : fX17_add F d this p0 p1 h = some r) : FXs r ∧ EF S_X17_add h r := by
  unfold fX17_add at hf
  replace hf := bnE hf
  obtain ⟨h1, e_h1, hf⟩ := hf
  have hx_h1 := FX_sI hx e_h1
  have ef_h1 := EF_sI (EF.rf (S := S_X17_add) _) e_h1 (by decide)
  replace hf := bnE hf
  obtain ⟨h2, e_h2, hf⟩ := hf
  have hx_h2 := FX_sP hx_h1 e_h2 (fun b e => rfl)
  have ef_h2 := EF_sP ef_h1 e_h2 (by decide)
  replace hf := bnE hf
  obtain ⟨o4, e_o4, hf⟩ := hf
  rcases nd_on o4 with e_a5 | ⟨a5, e_a5⟩
  · replace hf := ocN e_a5 hf
    subst e_a5
    replace hf := bnE hf
    obtain ⟨h6, e_h6, hf⟩ := hf
    have hx_h6 := FX_sP hx_h2 e_h6 (fun b e => rfl)
    have ef_h6 := EF_sP ef_h2 e_h6 (by decide)
    exact EFj ef_h6 (eX17_add_33 F d _ _ _ hx_h6 hf)
  · replace hf := ocS e_a5 hf
    subst e_a5
    replace hf := bnE hf
    obtain ⟨o8, e_o8, hf⟩ := hf
    replace hf := nnE hf
    obtain ⟨a9, e_a9, hf⟩ := hf
    subst e_a9
    replace hf := bnE hf
    obtain ⟨h10, e_h10, hf⟩ := hf
    have hx_h10 := FX_sP hx_h2 e_h10 (fun b e => rfl)
    have ef_h10 := EF_sP ef_h2 e_h10 (by decide)
    exact EFj ef_h10 (eX17_add_33 F d _ _ _ hx_h10 hf)
abbrev S_X12_with : SS := ([1703], [1706, 1707, 1708], [], [], [])
set_option maxHeartbeats 4000000 in
theorem eX12_with (F d : Nat) {p0 : Option Nat} {p1 : Option Nat} {h : Hp} (hx : FXs h) {r : Option Nat × Hp} (hf : fX12_with F d p0 p1 h = some r) : FXs r.2 ∧ EF S_X12_with h r.2 := by
  unfold fX12_with at hf
  rcases nd_on p0 with e_a1 | ⟨a1, e_a1⟩
  · replace hf := ocN e_a1 hf
    subst e_a1
    cases hf
    exact ⟨hx, (EF.rf (S := S_X12_with) _)⟩
  · replace hf := ocS e_a1 hf
    subst e_a1
    rcases nd_on p1 with e_a2 | ⟨a2, e_a2⟩
    · replace hf := ocN e_a2 hf
      subst e_a2
      cases hf
      exact ⟨hx, (EF.rf (S := S_X12_with) _)⟩
    · replace hf := ocS e_a2 hf
      subst e_a2
      replace hf := cvE hf
      obtain ⟨h3, e_h3, hf⟩ := hf
      have q_h3 := EFc (EF.rf (S := S_X12_with) _) (eX17_add F d hx e_h3) (by decide)
      have hx_h3 := q_h3.1
      have ef_h3 := q_h3.2
      cases hf
      exact ⟨hx_h3, ef_h3⟩
abbrev S_X4_tag : SS := ([], [], [], [], [])
set_option maxHeartbeats 4000000 in
theorem eX4_tag_57 (F d : Nat) (x1 : Int32) (x2 : Int32) (h : Hp) (hx : FXs h) {r : Int32 × Hp} (hf : fX4_tag_57 F d x1 x2 h = some r) : FXs r.2 ∧ EF S_X4_tag h r.2 := by
  unfold fX4_tag_57 at hf
  by_cases c1 : x2 = 2
  · replace hf := ifp c1 hf
    by_cases c2 : 10 ≤ x1
    · replace hf := ifp c2 hf
      cases hf
      exact ⟨hx, (EF.rf (S := S_X4_tag) _)⟩
    · replace hf := ifn c2 hf
      cases hf
      exact ⟨hx, (EF.rf (S := S_X4_tag) _)⟩
  · replace hf := ifn c1 hf
    cases hf
    exact ⟨hx, (EF.rf (S := S_X4_tag) _)⟩
set_option maxHeartbeats 4000000 in
theorem eX4_tag (F d : Nat) {this : Nat} {h : Hp} (hx : FXs h) {r : Int32 × Hp} (hf : fX4_tag F d this h = some r) : FXs r.2 ∧ EF S_X4_tag h r.2 := by
  unfold fX4_tag at hf
  by_cases c1 : (gI h 401 this) < (gI h 402 this)
  · replace hf := ifp c1 hf
    replace hf := nnE hf
    obtain ⟨a3, e_a3, hf⟩ := hf
    have sa_a3 := hx 400 _ _ e_a3
    replace hf := ckE hf
    obtain ⟨c4, hf⟩ := hf
    replace hf := bnE hf
    obtain ⟨v5, e_v5, hf⟩ := hf
    replace hf := nnE hf
    obtain ⟨a7, e_a7, hf⟩ := hf
    have sa_a7 := hx 400 _ _ e_a7
    replace hf := ckE hf
    obtain ⟨c8, hf⟩ := hf
    replace hf := bnE hf
    obtain ⟨v9, e_v9, hf⟩ := hf
    by_cases c10 : v9 = 0
    · replace hf := ifp c10 hf
      by_cases c11 : v5 ≤ 0
      · replace hf := ifp c11 hf
        exact EFj (EF.rf (S := S_X4_tag) _) (eX4_tag_57 F d _ _ _ hx hf)
      · replace hf := ifn c11 hf
        by_cases c12 : 20 ≤ v5
        · replace hf := ifp c12 hf
          exact EFj (EF.rf (S := S_X4_tag) _) (eX4_tag_57 F d _ _ _ hx hf)
        · replace hf := ifn c12 hf
          cases hf
          exact ⟨hx, (EF.rf (S := S_X4_tag) _)⟩
    · replace hf := ifn c10 hf
      exact EFj (EF.rf (S := S_X4_tag) _) (eX4_tag_57 F d _ _ _ hx hf)
  · replace hf := ifn c1 hf
    cases hf
    exact ⟨hx, (EF.rf (S := S_X4_tag) _)⟩
abbrev S_X17_init : SS := ([], [], [], [], [])
set_option maxHeartbeats 4000000 in
theorem eX17_init (F d : Nat) {this : Nat} {h : Hp} (hx : FXs h) {r : Hp} (hf : fX17_init F d this h = some r) : FXs r ∧ EF S_X17_init h r := by
  unfold fX17_init at hf
  cases hf
  exact ⟨hx, (EF.rf (S := S_X17_init) _)⟩
abbrev S_X3_make : SS := ([303, 1700, 1701, 1702, 1703], [1706, 1707, 1708], [], [300], [13])
set_option maxHeartbeats 4000000 in
theorem eX3_make_39 (F d : Nat) (this : Nat) (x1 : Int32) (x2 : Int32) (h : Hp) (hx : FXs h) {r : Option Nat × Hp} (hf : fX3_make_39 F d this x1 x2 h = some r) : FXs r.2 ∧ EF S_X3_make h r.2 := by
  unfold fX3_make_39 at hf
  replace hf := nnE hf
  obtain ⟨a2, e_a2, hf⟩ := hf
  have sa_a2 := hx 300 _ _ e_a2
  replace hf := ckE hf
  obtain ⟨c3, hf⟩ := hf
  replace hf := bnE hf
  obtain ⟨o5, e_o5, hf⟩ := hf
  replace hf := bnE hf
  obtain ⟨h6, e_h6, hf⟩ := hf
  have hx_h6 := FX_sI hx e_h6
  have ef_h6 := EF_sI (EF.rf (S := S_X3_make) _) e_h6 (by decide)
  replace hf := nnE hf
  obtain ⟨a7, e_a7, hf⟩ := hf
  subst e_a7
  replace hf := bnE hf
  obtain ⟨h8, e_h8, hf⟩ := hf
  have hx_h8 := FX_sI hx_h6 e_h8
  have ef_h8 := EF_sI ef_h6 e_h8 (by decide)
  replace hf := bnE hf
  obtain ⟨h9, e_h9, hf⟩ := hf
  have hx_h9 := FX_sI hx_h8 e_h9
  have ef_h9 := EF_sI ef_h8 e_h9 (by decide)
  replace hf := bnE hf
  obtain ⟨h10, e_h10, hf⟩ := hf
  have hx_h10 := FX_sI hx_h9 e_h10
  have ef_h10 := EF_sI ef_h9 e_h10 (by decide)
  replace hf := bnE hf
  obtain ⟨h11, e_h11, hf⟩ := hf
  have hx_h11 := FX_sI hx_h10 e_h11
  have ef_h11 := EF_sI ef_h10 e_h11 (by decide)
  replace hf := bnE hf
  obtain ⟨h12, e_h12, hf⟩ := hf
  have hx_h12 := FX_sP hx_h11 e_h12 (fun b e => rfl)
  have ef_h12 := EF_sP ef_h11 e_h12 (by decide)
  replace hf := bnE hf
  obtain ⟨h13, e_h13, hf⟩ := hf
  have hx_h13 := FX_sP hx_h12 e_h13 (fun b e => rfl)
  have ef_h13 := EF_sP ef_h12 e_h13 (by decide)
  replace hf := bnE hf
  obtain ⟨h14, e_h14, hf⟩ := hf
  have hx_h14 := FX_sP hx_h13 e_h14 (fun b e => rfl)
  have ef_h14 := EF_sP ef_h13 e_h14 (by decide)
  cases hf
  exact ⟨hx_h14, ef_h14⟩
set_option maxHeartbeats 4000000 in
theorem eX3_make (F d : Nat) {this : Nat} {p0 : Int32} {p1 : Int32} {h : Hp} (hx : FXs h) {r : Option Nat × Hp} (hf : fX3_make F d this p0 p1 h = some r) : FXs r.2 ∧ EF S_X3_make h r.2 := by
  unfold fX3_make at hf
  by_cases c1 : (gI h 303 this) < 100
  · replace hf := ifp c1 hf
    replace hf := nnE hf
    obtain ⟨a3, e_a3, hf⟩ := hf
    have sa_a3 := hx 300 _ _ e_a3
    replace hf := ckE hf
    obtain ⟨c4, hf⟩ := hf
    replace hf := bnE hf
    obtain ⟨o6, e_o6, hf⟩ := hf
    rcases nd_on o6 with e_a7 | ⟨a7, e_a7⟩
    · replace hf := ocN e_a7 hf
      subst e_a7
      replace hf := nnE hf
      obtain ⟨a9, e_a9, hf⟩ := hf
      have sa_a9 := hx 300 _ _ e_a9
      replace hf := bnE hf
      obtain ⟨n12, e_n12, hf⟩ := hf
      replace hf := ckE hf
      obtain ⟨c10, hf⟩ := hf
      replace hf := bnE hf
      obtain ⟨h11, e_h11, hf⟩ := hf
      have hx_h11 := FX_nw hx e_h11
      have ef_h11 := EF_nw (EF.rf (S := S_X3_make) _) e_h11 (freE c10).1 (by rw [(freE c10).2]; decide) (by rw [(freE c10).2]; decide) (by decide) (by rw [(freE c10).2]; decide)
      replace hf := cvE hf
      obtain ⟨h13, e_h13, hf⟩ := hf
      have q_h13 := EFc ef_h11 (eX17_init F d hx_h11 e_h13) (by decide)
      have hx_h13 := q_h13.1
      have ef_h13 := q_h13.2
      replace hf := ckE hf
      obtain ⟨c15, hf⟩ := hf
      replace hf := bnE hf
      obtain ⟨h16, e_h16, hf⟩ := hf
      have hx_h16 := FX_sR hx_h13 e_h16
      have ef_h16 := EF_sR ef_h13 e_h16 (f := 300) (by decide) sa_a9
      exact EFj ef_h16 (eX3_make_39 F d _ _ _ _ hx_h16 hf)
    · replace hf := ocS e_a7 hf
      subst e_a7
      exact EFj (EF.rf (S := S_X3_make) _) (eX3_make_39 F d _ _ _ _ hx hf)
  · replace hf := ifn c1 hf
    cases hf
    exact ⟨hx, (EF.rf (S := S_X3_make) _)⟩
abbrev S_X12_read : SS := ([303, 304, 401, 402, 407, 1700, 1701, 1702, 1703], [1706, 1707, 1708], [302, 405, 406], [300], [13])
set_option maxHeartbeats 4000000 in
theorem eX12_read_8 (F d : Nat) (R_read : Nat → Nat → Int32 → Hp → Option (Option Nat × Hp)) (hE_read : ∀ {b : Nat} {p0 : Nat} {p1 : Int32} {h : Hp} (_ : FXs h) {r : Option Nat × Hp}, R_read b p0 p1 h = some r → FXs r.2 ∧ EF SV_read h r.2) : ∀ (n : Nat) (this : Nat) (x1 : Nat) (x3 : Int32) (x4 : Int32) (h : Hp) (hx : FXs h) {r : Option Nat × Hp}, fX12_read_8 F d R_read n this x1 x3 x4 h = some r → FXs r.2 ∧ EF S_X12_read h r.2 := by
  intro n
  induction n with
  | zero => intro _ _ _ _ _ _ r hf; cases hf
  | succ n ih =>
    intro this x1 x3 x4 h hx r hf
    unfold fX12_read_8 at hf
    by_cases c1 : (gI h 1001 this) ≤ x4
    · replace hf := ifp c1 hf
      cases hf
      exact ⟨hx, (EF.rf (S := S_X12_read) _)⟩
    · replace hf := ifn c1 hf
      by_cases c2 : x3 = (-1)
      · replace hf := ifp c2 hf
        cases hf
        exact ⟨hx, (EF.rf (S := S_X12_read) _)⟩
      · replace hf := ifn c2 hf
        replace hf := nnE hf
        obtain ⟨a4, e_a4, hf⟩ := hf
        have sa_a4 := hx 1000 _ _ e_a4
        replace hf := ckE hf
        obtain ⟨c5, hf⟩ := hf
        replace hf := bnE hf
        obtain ⟨o7, e_o7, hf⟩ := hf
        replace hf := nnE hf
        obtain ⟨a8, e_a8, hf⟩ := hf
        subst e_a8
        replace hf := caE hf
        obtain ⟨v10, h9, e_h9, hf⟩ := hf
        have q_h9 := EFc (EF.rf (S := S_X12_read) _) (ev_tags F d hx e_h9) (by decide)
        have hx_h9 := q_h9.1
        have ef_h9 := q_h9.2
        by_cases c11 : ((v10 >>> (x3 &&& 31)) &&& 1) = 1
        · replace hf := ifp c11 hf
          replace hf := nnE hf
          obtain ⟨a14, e_a14, hf⟩ := hf
          replace hf := caE hf
          obtain ⟨v16, h15, e_h15, hf⟩ := hf
          have q_h15 := EFc ef_h9 (eX3_make F d hx_h9 e_h15) (by decide)
          have hx_h15 := q_h15.1
          have ef_h15 := q_h15.2
          replace hf := nnE hf
          obtain ⟨a19, e_a19, hf⟩ := hf
          have sa_a19 := hx_h15 1000 _ _ e_a19
          replace hf := ckE hf
          obtain ⟨c20, hf⟩ := hf
          replace hf := bnE hf
          obtain ⟨o22, e_o22, hf⟩ := hf
          replace hf := nnE hf
          obtain ⟨a23, e_a23, hf⟩ := hf
          subst e_a23
          replace hf := caE hf
          obtain ⟨v25, h24, e_h24, hf⟩ := hf
          have q_h24 := EFc ef_h15 (hE_read hx_h15 e_h24) (by decide)
          have hx_h24 := q_h24.1
          have ef_h24 := q_h24.2
          replace hf := caE hf
          obtain ⟨v28, h27, e_h27, hf⟩ := hf
          have q_h27 := EFc ef_h24 (eX12_with F d hx_h24 e_h27) (by decide)
          have hx_h27 := q_h27.1
          have ef_h27 := q_h27.2
          cases hf
          exact ⟨hx_h27, ef_h27⟩
        · replace hf := ifn c11 hf
          replace hf := bnE hf
          obtain ⟨v12, e_v12, hf⟩ := hf
          exact EFj ef_h9 (ih _ _ _ _ _ hx_h9 hf)
set_option maxHeartbeats 4000000 in
theorem eX12_read (F d : Nat) (R_read : Nat → Nat → Int32 → Hp → Option (Option Nat × Hp)) (hE_read : ∀ {b : Nat} {p0 : Nat} {p1 : Int32} {h : Hp} (_ : FXs h) {r : Option Nat × Hp}, R_read b p0 p1 h = some r → FXs r.2 ∧ EF SV_read h r.2) {this : Nat} {p0 : Nat} {p1 : Int32} {h : Hp} (hx : FXs h) {r : Option Nat × Hp} (hf : fX12_read F d R_read this p0 p1 h = some r) : FXs r.2 ∧ EF S_X12_read h r.2 := by
  unfold fX12_read at hf
  replace hf := caE hf
  obtain ⟨v2, h1, e_h1, hf⟩ := hf
  have q_h1 := EFc (EF.rf (S := S_X12_read) _) (eX4_tag F d hx e_h1) (by decide)
  have hx_h1 := q_h1.1
  have ef_h1 := q_h1.2
  exact EFj ef_h1 (eX12_read_8 F d R_read hE_read F _ _ _ _ _ hx_h1 hf)
abbrev S_X12_size : SS := ([], [], [], [], [])
set_option maxHeartbeats 4000000 in
theorem eX12_size (F d : Nat) (R_size : Nat → Nat → Hp → Option (Int32 × Hp)) (hE_size : ∀ {b : Nat} {p0 : Nat} {h : Hp} (_ : FXs h) {r : Int32 × Hp}, R_size b p0 h = some r → FXs r.2 ∧ EF SV_size h r.2) {this : Nat} {p0 : Nat} {h : Hp} (hx : FXs h) {r : Int32 × Hp} (hf : fX12_size F d R_size this p0 h = some r) : FXs r.2 ∧ EF S_X12_size h r.2 := by
  unfold fX12_size at hf
  replace hf := nnE hf
  obtain ⟨a2, e_a2, hf⟩ := hf
  have sa_a2 := hx 1000 _ _ e_a2
  replace hf := ckE hf
  obtain ⟨c3, hf⟩ := hf
  replace hf := bnE hf
  obtain ⟨o5, e_o5, hf⟩ := hf
  replace hf := bnE hf
  obtain ⟨o7, e_o7, hf⟩ := hf
  replace hf := nnE hf
  obtain ⟨a8, e_a8, hf⟩ := hf
  subst e_a8
  replace hf := nnE hf
  obtain ⟨a9, e_a9, hf⟩ := hf
  subst e_a9
  replace hf := caE hf
  obtain ⟨v11, h10, e_h10, hf⟩ := hf
  have q_h10 := EFc (EF.rf (S := S_X12_size) _) (hE_size hx e_h10) (by decide)
  have hx_h10 := q_h10.1
  have ef_h10 := q_h10.2
  cases hf
  exact ⟨hx_h10, ef_h10⟩
abbrev S_X4_isThere : SS := ([], [], [], [], [])
set_option maxHeartbeats 4000000 in
theorem eX4_isThere (F d : Nat) {this : Nat} {h : Hp} (hx : FXs h) {r : Int32 × Hp} (hf : fX4_isThere F d this h = some r) : FXs r.2 ∧ EF S_X4_isThere h r.2 := by
  unfold fX4_isThere at hf
  by_cases c1 : (8 * (gI h 402 this)) < (gI h 403 this)
  · replace hf := ifp c1 hf
    cases hf
    exact ⟨hx, (EF.rf (S := S_X4_isThere) _)⟩
  · replace hf := ifn c1 hf
    cases hf
    exact ⟨hx, (EF.rf (S := S_X4_isThere) _)⟩
abbrev S_X4_align : SS := ([403], [], [], [], [])
set_option maxHeartbeats 4000000 in
theorem eX4_align (F d : Nat) {this : Nat} {h : Hp} (hx : FXs h) {r : Hp} (hf : fX4_align F d this h = some r) : FXs r ∧ EF S_X4_align h r := by
  unfold fX4_align at hf
  replace hf := bnE hf
  obtain ⟨h1, e_h1, hf⟩ := hf
  have hx_h1 := FX_sI hx e_h1
  have ef_h1 := EF_sI (EF.rf (S := S_X4_align) _) e_h1 (by decide)
  cases hf
  exact ⟨hx_h1, ef_h1⟩
abbrev S_X4_take : SS := ([403], [], [], [], [])
set_option maxHeartbeats 4000000 in
theorem eX4_take_52 (F d : Nat) (k_4 : Nat → Int32 → Int32 → Int32 → Hp → Option (Int32 × Hp)) (hk_4 : ∀ (this : Nat) (x1 : Int32) (x2 : Int32) (x3 : Int32) (h : Hp) (hx : FXs h) {r : Int32 × Hp}, k_4 this x1 x2 x3 h = some r → FXs r.2 ∧ EF S_X4_take h r.2) (this : Nat) (x1 : Int32) (x2 : Int32) (x3 : Int32) (s0 : Int32) (h : Hp) (hx : FXs h) {r : Int32 × Hp} (hf : fX4_take_52 F d k_4 this x1 x2 x3 s0 h = some r) : FXs r.2 ∧ EF S_X4_take h r.2 := by
  unfold fX4_take_52 at hf
  replace hf := bnE hf
  obtain ⟨v1, e_v1, hf⟩ := hf
  replace hf := bnE hf
  obtain ⟨h2, e_h2, hf⟩ := hf
  have hx_h2 := FX_sI hx e_h2
  have ef_h2 := EF_sI (EF.rf (S := S_X4_take) _) e_h2 (by decide)
  replace hf := bnE hf
  obtain ⟨v3, e_v3, hf⟩ := hf
  exact EFj ef_h2 (hk_4 _ _ _ _ _ hx_h2 hf)
set_option maxHeartbeats 4000000 in
theorem eX4_take_4 (F d : Nat) : ∀ (n : Nat) (this : Nat) (x1 : Int32) (x2 : Int32) (x3 : Int32) (h : Hp) (hx : FXs h) {r : Int32 × Hp}, fX4_take_4 F d n this x1 x2 x3 h = some r → FXs r.2 ∧ EF S_X4_take h r.2 := by
  intro n
  induction n with
  | zero => intro _ _ _ _ _ _ r hf; cases hf
  | succ n ih =>
    intro this x1 x2 x3 h hx r hf
    unfold fX4_take_4 at hf
    by_cases c1 : x1 ≤ x3
    · replace hf := ifp c1 hf
      cases hf
      exact ⟨hx, (EF.rf (S := S_X4_take) _)⟩
    · replace hf := ifn c1 hf
      by_cases c2 : (8 * (gI h 402 this)) ≤ (gI h 403 this)
      · replace hf := ifp c2 hf
        exact EFj (EF.rf (S := S_X4_take) _) (eX4_take_52 F d (fX4_take_4 F d n) ih _ _ _ _ _ _ hx hf)
      · replace hf := ifn c2 hf
        replace hf := nnE hf
        obtain ⟨a4, e_a4, hf⟩ := hf
        have sa_a4 := hx 400 _ _ e_a4
        replace hf := ckE hf
        obtain ⟨c5, hf⟩ := hf
        replace hf := bnE hf
        obtain ⟨v6, e_v6, hf⟩ := hf
        exact EFj (EF.rf (S := S_X4_take) _) (eX4_take_52 F d (fX4_take_4 F d n) ih _ _ _ _ _ _ hx hf)
set_option maxHeartbeats 4000000 in
theorem eX4_take (F d : Nat) {this : Nat} {p0 : Int32} {h : Hp} (hx : FXs h) {r : Int32 × Hp} (hf : fX4_take F d this p0 h = some r) : FXs r.2 ∧ EF S_X4_take h r.2 := by
  unfold fX4_take at hf
  exact EFj (EF.rf (S := S_X4_take) _) (eX4_take_4 F d F _ _ _ _ _ hx hf)
abbrev S_X4_takeNumber : SS := ([403], [], [], [], [])
set_option maxHeartbeats 4000000 in
theorem eX4_takeNumber_33 (F d : Nat) (s0 : Int32) (s1 : Nat) (s2 : Int32) (h : Hp) (hx : FXs h) {r : Int32 × Hp} (hf : fX4_takeNumber_33 F d s0 s1 s2 h = some r) : FXs r.2 ∧ EF S_X4_takeNumber h r.2 := by
  unfold fX4_takeNumber_33 at hf
  replace hf := caE hf
  obtain ⟨v2, h1, e_h1, hf⟩ := hf
  have q_h1 := EFc (EF.rf (S := S_X4_takeNumber) _) (eX4_take F d hx e_h1) (by decide)
  have hx_h1 := q_h1.1
  have ef_h1 := q_h1.2
  cases hf
  exact ⟨hx_h1, ef_h1⟩
set_option maxHeartbeats 4000000 in
theorem eX4_takeNumber (F d : Nat) {this : Nat} {p0 : Int32} {p1 : Int32} {h : Hp} (hx : FXs h) {r : Int32 × Hp} (hf : fX4_takeNumber F d this p0 p1 h = some r) : FXs r.2 ∧ EF S_X4_takeNumber h r.2 := by
  unfold fX4_takeNumber at hf
  replace hf := bnE hf
  obtain ⟨v1, e_v1, hf⟩ := hf
  by_cases c2 : v1 ≤ 255
  · replace hf := ifp c2 hf
    replace hf := caE hf
    obtain ⟨v4, h3, e_h3, hf⟩ := hf
    have q_h3 := EFc (EF.rf (S := S_X4_takeNumber) _) (eX1_width F d hx e_h3) (by decide)
    have hx_h3 := q_h3.1
    have ef_h3 := q_h3.2
    replace hf := caE hf
    obtain ⟨v6, h5, e_h5, hf⟩ := hf
    have q_h5 := EFc ef_h3 (eX4_take F d hx_h3 e_h5) (by decide)
    have hx_h5 := q_h5.1
    have ef_h5 := q_h5.2
    cases hf
    exact ⟨hx_h5, ef_h5⟩
  · replace hf := ifn c2 hf
    replace hf := cvE hf
    obtain ⟨h7, e_h7, hf⟩ := hf
    have q_h7 := EFc (EF.rf (S := S_X4_takeNumber) _) (eX4_align F d hx e_h7) (by decide)
    have hx_h7 := q_h7.1
    have ef_h7 := q_h7.2
    by_cases c9 : v1 = 256
    · replace hf := ifp c9 hf
      exact EFj ef_h7 (eX4_takeNumber_33 F d _ _ _ _ hx_h7 hf)
    · replace hf := ifn c9 hf
      exact EFj ef_h7 (eX4_takeNumber_33 F d _ _ _ _ hx_h7 hf)
abbrev S_X12_unpack : SS := ([303, 304, 403, 1700, 1701, 1702, 1703], [1706, 1707, 1708], [302], [300], [13])
set_option maxHeartbeats 4000000 in
theorem eX12_unpack_14 (F d : Nat) (R_unpack : Nat → Nat → Hp → Option (Option Nat × Hp)) (hE_unpack : ∀ {b : Nat} {p0 : Nat} {h : Hp} (_ : FXs h) {r : Option Nat × Hp}, R_unpack b p0 h = some r → FXs r.2 ∧ EF SV_unpack h r.2) : ∀ (n : Nat) (this : Nat) (x1 : Nat) (x2 : Int32) (x3 : Int32) (h : Hp) (hx : FXs h) {r : Option Nat × Hp}, fX12_unpack_14 F d R_unpack n this x1 x2 x3 h = some r → FXs r.2 ∧ EF S_X12_unpack h r.2 := by
  intro n
  induction n with
  | zero => intro _ _ _ _ _ _ r hf; cases hf
  | succ n ih =>
    intro this x1 x2 x3 h hx r hf
    unfold fX12_unpack_14 at hf
    by_cases c1 : (gI h 1001 this) ≤ x3
    · replace hf := ifp c1 hf
      cases hf
      exact ⟨hx, (EF.rf (S := S_X12_unpack) _)⟩
    · replace hf := ifn c1 hf
      replace hf := caE hf
      obtain ⟨v3, h2, e_h2, hf⟩ := hf
      have q_h2 := EFc (EF.rf (S := S_X12_unpack) _) (eX4_isThere F d hx e_h2) (by decide)
      have hx_h2 := q_h2.1
      have ef_h2 := q_h2.2
      by_cases c4 : v3 = 0
      · replace hf := ifp c4 hf
        cases hf
        exact ⟨hx_h2, ef_h2⟩
      · replace hf := ifn c4 hf
        replace hf := caE hf
        obtain ⟨v6, h5, e_h5, hf⟩ := hf
        have q_h5 := EFc ef_h2 (eX12_rank F d hx_h2 e_h5) (by decide)
        have hx_h5 := q_h5.1
        have ef_h5 := q_h5.2
        by_cases c7 : v6 = x2
        · replace hf := ifp c7 hf
          replace hf := nnE hf
          obtain ⟨a10, e_a10, hf⟩ := hf
          replace hf := caE hf
          obtain ⟨v12, h11, e_h11, hf⟩ := hf
          have q_h11 := EFc ef_h5 (eX3_make F d hx_h5 e_h11) (by decide)
          have hx_h11 := q_h11.1
          have ef_h11 := q_h11.2
          replace hf := nnE hf
          obtain ⟨a15, e_a15, hf⟩ := hf
          have sa_a15 := hx_h11 1000 _ _ e_a15
          replace hf := ckE hf
          obtain ⟨c16, hf⟩ := hf
          replace hf := bnE hf
          obtain ⟨o18, e_o18, hf⟩ := hf
          replace hf := nnE hf
          obtain ⟨a19, e_a19, hf⟩ := hf
          subst e_a19
          replace hf := caE hf
          obtain ⟨v21, h20, e_h20, hf⟩ := hf
          have q_h20 := EFc ef_h11 (hE_unpack hx_h11 e_h20) (by decide)
          have hx_h20 := q_h20.1
          have ef_h20 := q_h20.2
          replace hf := caE hf
          obtain ⟨v24, h23, e_h23, hf⟩ := hf
          have q_h23 := EFc ef_h20 (eX12_with F d hx_h20 e_h23) (by decide)
          have hx_h23 := q_h23.1
          have ef_h23 := q_h23.2
          cases hf
          exact ⟨hx_h23, ef_h23⟩
        · replace hf := ifn c7 hf
          replace hf := bnE hf
          obtain ⟨v8, e_v8, hf⟩ := hf
          exact EFj ef_h5 (ih _ _ _ _ _ hx_h5 hf)
set_option maxHeartbeats 4000000 in
theorem eX12_unpack (F d : Nat) (R_unpack : Nat → Nat → Hp → Option (Option Nat × Hp)) (hE_unpack : ∀ {b : Nat} {p0 : Nat} {h : Hp} (_ : FXs h) {r : Option Nat × Hp}, R_unpack b p0 h = some r → FXs r.2 ∧ EF SV_unpack h r.2) {this : Nat} {p0 : Nat} {h : Hp} (hx : FXs h) {r : Option Nat × Hp} (hf : fX12_unpack F d R_unpack this p0 h = some r) : FXs r.2 ∧ EF S_X12_unpack h r.2 := by
  unfold fX12_unpack at hf
  replace hf := caE hf
  obtain ⟨v2, h1, e_h1, hf⟩ := hf
  have q_h1 := EFc (EF.rf (S := S_X12_unpack) _) (eX4_takeNumber F d hx e_h1) (by decide)
  have hx_h1 := q_h1.1
  have ef_h1 := q_h1.2
  exact EFj ef_h1 (eX12_unpack_14 F d R_unpack hE_unpack F _ _ _ _ _ hx_h1 hf)
abbrev S_X12_write : SS := ([501], [], [500], [], [])
set_option maxHeartbeats 4000000 in
theorem eX12_write (F d : Nat) (R_write : Nat → Nat → Nat → Int32 → Hp → Option (Hp)) (hE_write : ∀ {b : Nat} {p0 : Nat} {p1 : Nat} {p2 : Int32} {h : Hp} (_ : FXs h) {r : Hp}, R_write b p0 p1 p2 h = some r → FXs r ∧ EF SV_write h r) {this : Nat} {p0 : Nat} {p1 : Nat} {p2 : Int32} {h : Hp} (hx : FXs h) {r : Hp} (hf : fX12_write F d R_write this p0 p1 p2 h = some r) : FXs r ∧ EF S_X12_write h r := by
  unfold fX12_write at hf
  replace hf := nnE hf
  obtain ⟨a2, e_a2, hf⟩ := hf
  have sa_a2 := hx 1000 _ _ e_a2
  replace hf := ckE hf
  obtain ⟨c3, hf⟩ := hf
  replace hf := bnE hf
  obtain ⟨o5, e_o5, hf⟩ := hf
  replace hf := bnE hf
  obtain ⟨o7, e_o7, hf⟩ := hf
  replace hf := nnE hf
  obtain ⟨a8, e_a8, hf⟩ := hf
  subst e_a8
  replace hf := nnE hf
  obtain ⟨a9, e_a9, hf⟩ := hf
  subst e_a9
  replace hf := cvE hf
  obtain ⟨h10, e_h10, hf⟩ := hf
  have q_h10 := EFc (EF.rf (S := S_X12_write) _) (hE_write hx e_h10) (by decide)
  have hx_h10 := q_h10.1
  have ef_h10 := q_h10.2
  cases hf
  exact ⟨hx_h10, ef_h10⟩
abbrev S_X2_look : SS := ([], [], [], [], [])
set_option maxHeartbeats 4000000 in
theorem eX2_look (F d : Nat) {this : Nat} {h : Hp} (hx : FXs h) {r : Int32 × Hp} (hf : fX2_look F d this h = some r) : FXs r.2 ∧ EF S_X2_look h r.2 := by
  unfold fX2_look at hf
  by_cases c1 : (gI h 201 this) ≤ (gI h 202 this)
  · replace hf := ifp c1 hf
    cases hf
    exact ⟨hx, (EF.rf (S := S_X2_look) _)⟩
  · replace hf := ifn c1 hf
    replace hf := nnE hf
    obtain ⟨a3, e_a3, hf⟩ := hf
    have sa_a3 := hx 200 _ _ e_a3
    replace hf := ckE hf
    obtain ⟨c4, hf⟩ := hf
    cases hf
    exact ⟨hx, (EF.rf (S := S_X2_look) _)⟩
abbrev S_X2_wrong : SS := ([203], [], [], [], [])
set_option maxHeartbeats 4000000 in
theorem eX2_wrong (F d : Nat) {this : Nat} {p0 : Int32} {p1 : Int32} {h : Hp} (hx : FXs h) {r : Int32 × Hp} (hf : fX2_wrong F d this p0 p1 h = some r) : FXs r.2 ∧ EF S_X2_wrong h r.2 := by
  unfold fX2_wrong at hf
  by_cases c1 : (gI h 203 this) = 0
  · replace hf := ifp c1 hf
    replace hf := bnE hf
    obtain ⟨h2, e_h2, hf⟩ := hf
    have hx_h2 := FX_sI hx e_h2
    have ef_h2 := EF_sI (EF.rf (S := S_X2_wrong) _) e_h2 (by decide)
    cases hf
    exact ⟨hx_h2, ef_h2⟩
  · replace hf := ifn c1 hf
    cases hf
    exact ⟨hx, (EF.rf (S := S_X2_wrong) _)⟩
abbrev S_X2_another : SS := ([203], [], [], [], [])
set_option maxHeartbeats 4000000 in
theorem eX2_another (F d : Nat) {this : Nat} {p0 : Int32} {h : Hp} (hx : FXs h) {r : Int32 × Hp} (hf : fX2_another F d this p0 h = some r) : FXs r.2 ∧ EF S_X2_another h r.2 := by
  unfold fX2_another at hf
  replace hf := caE hf
  obtain ⟨v2, h1, e_h1, hf⟩ := hf
  have q_h1 := EFc (EF.rf (S := S_X2_another) _) (eX2_look F d hx e_h1) (by decide)
  have hx_h1 := q_h1.1
  have ef_h1 := q_h1.2
  by_cases c3 : v2 = 44
  · replace hf := ifp c3 hf
    by_cases c4 : p0 < 6
    · replace hf := ifp c4 hf
      cases hf
      exact ⟨hx_h1, ef_h1⟩
    · replace hf := ifn c4 hf
      replace hf := caE hf
      obtain ⟨v6, h5, e_h5, hf⟩ := hf
      have q_h5 := EFc ef_h1 (eX2_wrong F d hx_h1 e_h5) (by decide)
      have hx_h5 := q_h5.1
      have ef_h5 := q_h5.2
      by_cases c7 : v6 = 0
      · replace hf := ifp c7 hf
        cases hf
        exact ⟨hx_h5, ef_h5⟩
      · replace hf := ifn c7 hf
        cases hf
        exact ⟨hx_h5, ef_h5⟩
  · replace hf := ifn c3 hf
    cases hf
    exact ⟨hx_h1, ef_h1⟩
abbrev S_X2_expect : SS := ([202, 203], [], [], [], [])
set_option maxHeartbeats 4000000 in
theorem eX2_expect (F d : Nat) {this : Nat} {p0 : Int32} {h : Hp} (hx : FXs h) {r : Int32 × Hp} (hf : fX2_expect F d this p0 h = some r) : FXs r.2 ∧ EF S_X2_expect h r.2 := by
  unfold fX2_expect at hf
  replace hf := caE hf
  obtain ⟨v2, h1, e_h1, hf⟩ := hf
  have q_h1 := EFc (EF.rf (S := S_X2_expect) _) (eX2_look F d hx e_h1) (by decide)
  have hx_h1 := q_h1.1
  have ef_h1 := q_h1.2
  by_cases c3 : v2 = p0
  · replace hf := ifp c3 hf
    replace hf := bnE hf
    obtain ⟨h4, e_h4, hf⟩ := hf
    have hx_h4 := FX_sI hx_h1 e_h4
    have ef_h4 := EF_sI ef_h1 e_h4 (by decide)
    cases hf
    exact ⟨hx_h4, ef_h4⟩
  · replace hf := ifn c3 hf
    replace hf := caE hf
    obtain ⟨v6, h5, e_h5, hf⟩ := hf
    have q_h5 := EFc ef_h1 (eX2_wrong F d hx_h1 e_h5) (by decide)
    have hx_h5 := q_h5.1
    have ef_h5 := q_h5.2
    replace hf := ckE hf
    obtain ⟨c7, hf⟩ := hf
    cases hf
    exact ⟨hx_h5, ef_h5⟩
abbrev S_X2_noType : SS := ([203], [], [], [], [])
set_option maxHeartbeats 4000000 in
theorem eX2_noType (F d : Nat) {this : Nat} {p0 : Int32} {p1 : Int32} {h : Hp} (hx : FXs h) {r : Option Nat × Hp} (hf : fX2_noType F d this p0 p1 h = some r) : FXs r.2 ∧ EF S_X2_noType h r.2 := by
  unfold fX2_noType at hf
  replace hf := caE hf
  obtain ⟨v2, h1, e_h1, hf⟩ := hf
  have q_h1 := EFc (EF.rf (S := S_X2_noType) _) (eX2_wrong F d hx e_h1) (by decide)
  have hx_h1 := q_h1.1
  have ef_h1 := q_h1.2
  cases hf
  exact ⟨hx_h1, ef_h1⟩
abbrev S_X10_put : SS := ([1001], [], [], [1000], [])
set_option maxHeartbeats 4000000 in
theorem eX10_put (F d : Nat) {this : Nat} {p0 : Nat} {h : Hp} (hx : FXs h) {r : Hp} (hf : fX10_put F d this p0 h = some r) : FXs r ∧ EF S_X10_put h r := by
  unfold fX10_put at hf
  replace hf := nnE hf
  obtain ⟨a2, e_a2, hf⟩ := hf
  have sa_a2 := hx 1000 _ _ e_a2
  replace hf := ckE hf
  obtain ⟨c3, hf⟩ := hf
  replace hf := bnE hf
  obtain ⟨h4, e_h4, hf⟩ := hf
  have hx_h4 := FX_sR hx e_h4
  have ef_h4 := EF_sR (EF.rf (S := S_X10_put) _) e_h4 (f := 1000) (by decide) sa_a2
  replace hf := bnE hf
  obtain ⟨h5, e_h5, hf⟩ := hf
  have hx_h5 := FX_sI hx_h4 e_h5
  have ef_h5 := EF_sI ef_h4 e_h5 (by decide)
  cases hf
  exact ⟨hx_h5, ef_h5⟩
abbrev S_X2_choiceOf : SS := ([202, 203, 212, 213, 214, 800, 900, 901, 902, 903, 1001, 1400, 1401, 1402, 1600, 1601], [1000, 1100, 1101, 1300, 1500, 1501, 1602], [211, 1100, 1101], [205, 206, 207, 208, 209, 210, 1000], [6, 7, 8, 9, 10, 11, 12, 20, 24])
set_option maxHeartbeats 4000000 in
theorem eX2_choiceOf_98 (F d : Nat) (R_typeOf : Nat → Int32 → Hp → Option (Option Nat × Hp)) (hE_typeOf : ∀ {p0 : Nat} {p1 : Int32} {h : Hp} (_ : FXs h) {r : Option Nat × Hp}, R_typeOf p0 p1 h = some r → FXs r.2 ∧ EF SV_typeOf h r.2) (k_48 : Nat → Int32 → Nat → Int32 → Hp → Option (Option Nat × Hp)) (hk_48 : ∀ (x0 : Nat) (x2 : Int32) (x3 : Nat) (x4 : Int32) (h : Hp) (hx : FXs h) {r : Option Nat × Hp}, k_48 x0 x2 x3 x4 h = some r → FXs r.2 ∧ EF S_X2_choiceOf h r.2) (x0 : Nat) (x2 : Int32) (x3 : Nat) (x4 : Int32) (h : Hp) (hx : FXs h) {r : Option Nat × Hp} (hf : fX2_choiceOf_98 F d R_typeOf k_48 x0 x2 x3 x4 h = some r) : FXs r.2 ∧ EF S_X2_choiceOf h r.2 := by
  unfold fX2_choiceOf_98 at hf
  exact EFj (EF.rf (S := S_X2_choiceOf) _) (hk_48 _ _ _ _ _ hx hf)
set_option maxHeartbeats 4000000 in
theorem eX2_choiceOf_48 (F d : Nat) (R_typeOf : Nat → Int32 → Hp → Option (Option Nat × Hp)) (hE_typeOf : ∀ {p0 : Nat} {p1 : Int32} {h : Hp} (_ : FXs h) {r : Option Nat × Hp}, R_typeOf p0 p1 h = some r → FXs r.2 ∧ EF SV_typeOf h r.2) : ∀ (n : Nat) (x0 : Nat) (x2 : Int32) (x3 : Nat) (x4 : Int32) (h : Hp) (hx : FXs h) {r : Option Nat × Hp}, fX2_choiceOf_48 F d R_typeOf n x0 x2 x3 x4 h = some r → FXs r.2 ∧ EF S_X2_choiceOf h r.2 := by
  intro n
  induction n with
  | zero => intro _ _ _ _ _ _ r hf; cases hf
  | succ n ih =>
    intro x0 x2 x3 x4 h hx r hf
    unfold fX2_choiceOf_48 at hf
    by_cases c1 : x4 = 0
    · replace hf := ifp c1 hf
      by_cases c2 : 0 < (gI h 203 x0)
      · replace hf := ifp c2 hf
        cases hf
        exact ⟨hx, (EF.rf (S := S_X2_choiceOf) _)⟩
      · replace hf := ifn c2 hf
        replace hf := caE hf
        obtain ⟨v4, h3, e_h3, hf⟩ := hf
        have q_h3 := EFc (EF.rf (S := S_X2_choiceOf) _) (eX2_expect F d hx e_h3) (by decide)
        have hx_h3 := q_h3.1
        have ef_h3 := q_h3.2
        by_cases c5 : v4 = 0
        · replace hf := ifp c5 hf
          cases hf
          exact ⟨hx_h3, ef_h3⟩
        · replace hf := ifn c5 hf
          replace hf := caE hf
          obtain ⟨v7, h6, e_h6, hf⟩ := hf
          have q_h6 := EFc ef_h3 (eX12_isDistinct F d hx_h3 e_h6) (by decide)
          have hx_h6 := q_h6.1
          have ef_h6 := q_h6.2
          by_cases c8 : v7 = 0
          · replace hf := ifp c8 hf
            replace hf := caE hf
            obtain ⟨v10, h9, e_h9, hf⟩ := hf
            have q_h9 := EFc ef_h6 (eX2_noType F d hx_h6 e_h9) (by decide)
            have hx_h9 := q_h9.1
            have ef_h9 := q_h9.2
            cases hf
            exact ⟨hx_h9, ef_h9⟩
          · replace hf := ifn c8 hf
            cases hf
            exact ⟨hx_h6, ef_h6⟩
    · replace hf := ifn c1 hf
      replace hf := caE hf
      obtain ⟨v13, h12, e_h12, hf⟩ := hf
      have q_h12 := EFc (EF.rf (S := S_X2_choiceOf) _) (hE_typeOf hx e_h12) (by decide)
      have hx_h12 := q_h12.1
      have ef_h12 := q_h12.2
      rcases nd_on v13 with e_a15 | ⟨a15, e_a15⟩
      · replace hf := ocN e_a15 hf
        subst e_a15
        cases hf
        exact ⟨hx_h12, ef_h12⟩
      · replace hf := ocS e_a15 hf
        subst e_a15
        replace hf := cvE hf
        obtain ⟨h16, e_h16, hf⟩ := hf
        have q_h16 := EFc ef_h12 (eX10_put F d hx_h12 e_h16) (by decide)
        have hx_h16 := q_h16.1
        have ef_h16 := q_h16.2
        replace hf := caE hf
        obtain ⟨v19, h18, e_h18, hf⟩ := hf
        have q_h18 := EFc ef_h16 (eX2_another F d hx_h16 e_h18) (by decide)
        have hx_h18 := q_h18.1
        have ef_h18 := q_h18.2
        by_cases c20 : v19 = 0
        · replace hf := ifp c20 hf
          exact EFj ef_h18 (eX2_choiceOf_98 F d R_typeOf hE_typeOf (fX2_choiceOf_48 F d R_typeOf n) ih _ _ _ _ _ hx_h18 hf)
        · replace hf := ifn c20 hf
          replace hf := bnE hf
          obtain ⟨h21, e_h21, hf⟩ := hf
          have hx_h21 := FX_sI hx_h18 e_h21
          have ef_h21 := EF_sI ef_h18 e_h21 (by decide)
          exact EFj ef_h21 (eX2_choiceOf_98 F d R_typeOf hE_typeOf (fX2_choiceOf_48 F d R_typeOf n) ih _ _ _ _ _ hx_h21 hf)
set_option maxHeartbeats 4000000 in
theorem eX2_choiceOf_22 (F d : Nat) (R_typeOf : Nat → Int32 → Hp → Option (Option Nat × Hp)) (hE_typeOf : ∀ {p0 : Nat} {p1 : Int32} {h : Hp} (_ : FXs h) {r : Option Nat × Hp}, R_typeOf p0 p1 h = some r → FXs r.2 ∧ EF SV_typeOf h r.2) (x0 : Nat) (x1 : Int32) (x2 : Int32) (h : Hp) (hx : FXs h) {r : Option Nat × Hp} (hf : fX2_choiceOf_22 F d R_typeOf x0 x1 x2 h = some r) : FXs r.2 ∧ EF S_X2_choiceOf h r.2 := by
  unfold fX2_choiceOf_22 at hf
  replace hf := nnE hf
  obtain ⟨a2, e_a2, hf⟩ := hf
  have sa_a2 := hx 209 _ _ e_a2
  replace hf := ckE hf
  obtain ⟨c3, hf⟩ := hf
  replace hf := bnE hf
  obtain ⟨o5, e_o5, hf⟩ := hf
  replace hf := nnE hf
  obtain ⟨a6, e_a6, hf⟩ := hf
  subst e_a6
  replace hf := bnE hf
  obtain ⟨h7, e_h7, hf⟩ := hf
  have hx_h7 := FX_sI hx e_h7
  have ef_h7 := EF_sI (EF.rf (S := S_X2_choiceOf) _) e_h7 (by decide)
  replace hf := caE hf
  obtain ⟨v9, h8, e_h8, hf⟩ := hf
  have q_h8 := EFc ef_h7 (eX2_expect F d hx_h7 e_h8) (by decide)
  have hx_h8 := q_h8.1
  have ef_h8 := q_h8.2
  by_cases c10 : v9 = 0
  · replace hf := ifp c10 hf
    cases hf
    exact ⟨hx_h8, ef_h8⟩
  · replace hf := ifn c10 hf
    exact EFj ef_h8 (eX2_choiceOf_48 F d R_typeOf hE_typeOf F _ _ _ _ _ hx_h8 hf)
set_option maxHeartbeats 4000000 in
theorem eX2_choiceOf (F d : Nat) (R_typeOf : Nat → Int32 → Hp → Option (Option Nat × Hp)) (hE_typeOf : ∀ {p0 : Nat} {p1 : Int32} {h : Hp} (_ : FXs h) {r : Option Nat × Hp}, R_typeOf p0 p1 h = some r → FXs r.2 ∧ EF SV_typeOf h r.2) {p0 : Nat} {p1 : Int32} {p2 : Int32} {h : Hp} (hx : FXs h) {r : Option Nat × Hp} (hf : fX2_choiceOf F d R_typeOf p0 p1 p2 h = some r) : FXs r.2 ∧ EF S_X2_choiceOf h r.2 := by
  unfold fX2_choiceOf at hf
  replace hf := nnE hf
  obtain ⟨a2, e_a2, hf⟩ := hf
  have sa_a2 := hx 209 _ _ e_a2
  replace hf := ckE hf
  obtain ⟨c3, hf⟩ := hf
  replace hf := bnE hf
  obtain ⟨o5, e_o5, hf⟩ := hf
  rcases nd_on o5 with e_a6 | ⟨a6, e_a6⟩
  · replace hf := ocN e_a6 hf
    subst e_a6
    replace hf := nnE hf
    obtain ⟨a8, e_a8, hf⟩ := hf
    have sa_a8 := hx 209 _ _ e_a8
    replace hf := bnE hf
    obtain ⟨n11, e_n11, hf⟩ := hf
    replace hf := ckE hf
    obtain ⟨c9, hf⟩ := hf
    replace hf := bnE hf
    obtain ⟨h10, e_h10, hf⟩ := hf
    have hx_h10 := FX_nw hx e_h10
    have ef_h10 := EF_nw (EF.rf (S := S_X2_choiceOf) _) e_h10 (freE c9).1 (by rw [(freE c9).2]; decide) (by rw [(freE c9).2]; decide) (by decide) (by rw [(freE c9).2]; decide)
    replace hf := cvE hf
    obtain ⟨h12, e_h12, hf⟩ := hf
    have q_h12 := EFc ef_h10 (eX12_init F d hx_h10 e_h12) (by decide)
    have hx_h12 := q_h12.1
    have ef_h12 := q_h12.2
    replace hf := ckE hf
    obtain ⟨c14, hf⟩ := hf
    replace hf := bnE hf
    obtain ⟨h15, e_h15, hf⟩ := hf
    have hx_h15 := FX_sR hx_h12 e_h15
    have ef_h15 := EF_sR ef_h12 e_h15 (f := 209) (by decide) sa_a8
    exact EFj ef_h15 (eX2_choiceOf_22 F d R_typeOf hE_typeOf _ _ _ _ hx_h15 hf)
  · replace hf := ocS e_a6 hf
    subst e_a6
    exact EFj (EF.rf (S := S_X2_choiceOf) _) (eX2_choiceOf_22 F d R_typeOf hE_typeOf _ _ _ _ hx hf)
abbrev S_X1_isDigit : SS := ([], [], [], [], [])
set_option maxHeartbeats 4000000 in
theorem eX1_isDigit (F d : Nat) {p0 : Int32} {h : Hp} (hx : FXs h) {r : Int32 × Hp} (hf : fX1_isDigit F d p0 h = some r) : FXs r.2 ∧ EF S_X1_isDigit h r.2 := by
  unfold fX1_isDigit at hf
  by_cases c1 : p0 < 48
  · replace hf := ifp c1 hf
    cases hf
    exact ⟨hx, (EF.rf (S := S_X1_isDigit) _)⟩
  · replace hf := ifn c1 hf
    by_cases c2 : 57 < p0
    · replace hf := ifp c2 hf
      cases hf
      exact ⟨hx, (EF.rf (S := S_X1_isDigit) _)⟩
    · replace hf := ifn c2 hf
      cases hf
      exact ⟨hx, (EF.rf (S := S_X1_isDigit) _)⟩
abbrev S_X2_number : SS := ([202, 203, 213], [], [], [], [])
set_option maxHeartbeats 4000000 in
theorem eX2_number_108 (F d : Nat) (this : Nat) (s0 : Nat) (s1 : Int32) (h : Hp) (hx : FXs h) {r : Int32 × Hp} (hf : fX2_number_108 F d this s0 s1 h = some r) : FXs r.2 ∧ EF S_X2_number h r.2 := by
  unfold fX2_number_108 at hf
  replace hf := bnE hf
  obtain ⟨h1, e_h1, hf⟩ := hf
  have hx_h1 := FX_sI hx e_h1
  have ef_h1 := EF_sI (EF.rf (S := S_X2_number) _) e_h1 (by decide)
  replace hf := caE hf
  obtain ⟨v3, h2, e_h2, hf⟩ := hf
  have q_h2 := EFc ef_h1 (eX2_look F d hx_h1 e_h2) (by decide)
  have hx_h2 := q_h2.1
  have ef_h2 := q_h2.2
  replace hf := caE hf
  obtain ⟨v5, h4, e_h4, hf⟩ := hf
  have q_h4 := EFc ef_h2 (eX1_isDigit F d hx_h2 e_h4) (by decide)
  have hx_h4 := q_h4.1
  have ef_h4 := q_h4.2
  by_cases c6 : v5 = 0
  · replace hf := ifp c6 hf
    cases hf
    exact ⟨hx_h4, ef_h4⟩
  · replace hf := ifn c6 hf
    replace hf := caE hf
    obtain ⟨v8, h7, e_h7, hf⟩ := hf
    have q_h7 := EFc ef_h4 (eX2_wrong F d hx_h4 e_h7) (by decide)
    have hx_h7 := q_h7.1
    have ef_h7 := q_h7.2
    by_cases c9 : v8 = 0
    · replace hf := ifp c9 hf
      cases hf
      exact ⟨hx_h7, ef_h7⟩
    · replace hf := ifn c9 hf
      cases hf
      exact ⟨hx_h7, ef_h7⟩
set_option maxHeartbeats 4000000 in
theorem eX2_number_97 (F d : Nat) (this : Nat) (x1 : Int32) (x2 : Int32) (h : Hp) (hx : FXs h) {r : Int32 × Hp} (hf : fX2_number_97 F d this x1 x2 h = some r) : FXs r.2 ∧ EF S_X2_number h r.2 := by
  unfold fX2_number_97 at hf
  by_cases c1 : x1 = 0
  · replace hf := ifp c1 hf
    exact EFj (EF.rf (S := S_X2_number) _) (eX2_number_108 F d _ _ _ _ hx hf)
  · replace hf := ifn c1 hf
    exact EFj (EF.rf (S := S_X2_number) _) (eX2_number_108 F d _ _ _ _ hx hf)
set_option maxHeartbeats 4000000 in
theorem eX2_number_53 (F d : Nat) : ∀ (n : Nat) (this : Nat) (x1 : Int32) (x2 : Int32) (x3 : Int32) (h : Hp) (hx : FXs h) {r : Int32 × Hp}, fX2_number_53 F d n this x1 x2 x3 h = some r → FXs r.2 ∧ EF S_X2_number h r.2 := by
  intro n
  induction n with
  | zero => intro _ _ _ _ _ _ r hf; cases hf
  | succ n ih =>
    intro this x1 x2 x3 h hx r hf
    unfold fX2_number_53 at hf
    by_cases c1 : 5 ≤ x3
    · replace hf := ifp c1 hf
      exact EFj (EF.rf (S := S_X2_number) _) (eX2_number_97 F d _ _ _ _ hx hf)
    · replace hf := ifn c1 hf
      replace hf := caE hf
      obtain ⟨v3, h2, e_h2, hf⟩ := hf
      have q_h2 := EFc (EF.rf (S := S_X2_number) _) (eX2_look F d hx e_h2) (by decide)
      have hx_h2 := q_h2.1
      have ef_h2 := q_h2.2
      replace hf := caE hf
      obtain ⟨v5, h4, e_h4, hf⟩ := hf
      have q_h4 := EFc ef_h2 (eX1_isDigit F d hx_h2 e_h4) (by decide)
      have hx_h4 := q_h4.1
      have ef_h4 := q_h4.2
      by_cases c6 : v5 = 0
      · replace hf := ifp c6 hf
        exact EFj ef_h4 (eX2_number_97 F d _ _ _ _ hx_h4 hf)
      · replace hf := ifn c6 hf
        replace hf := caE hf
        obtain ⟨v8, h7, e_h7, hf⟩ := hf
        have q_h7 := EFc ef_h4 (eX2_look F d hx_h4 e_h7) (by decide)
        have hx_h7 := q_h7.1
        have ef_h7 := q_h7.2
        replace hf := bnE hf
        obtain ⟨v9, e_v9, hf⟩ := hf
        replace hf := bnE hf
        obtain ⟨h10, e_h10, hf⟩ := hf
        have hx_h10 := FX_sI hx_h7 e_h10
        have ef_h10 := EF_sI ef_h7 e_h10 (by decide)
        replace hf := bnE hf
        obtain ⟨v11, e_v11, hf⟩ := hf
        exact EFj ef_h10 (ih _ _ _ _ _ hx_h10 hf)
set_option maxHeartbeats 4000000 in
theorem eX2_number_29 (F d : Nat) (this : Nat) (x1 : Int32) (h : Hp) (hx : FXs h) {r : Int32 × Hp} (hf : fX2_number_29 F d this x1 h = some r) : FXs r.2 ∧ EF S_X2_number h r.2 := by
  unfold fX2_number_29 at hf
  replace hf := caE hf
  obtain ⟨v2, h1, e_h1, hf⟩ := hf
  have q_h1 := EFc (EF.rf (S := S_X2_number) _) (eX2_look F d hx e_h1) (by decide)
  have hx_h1 := q_h1.1
  have ef_h1 := q_h1.2
  replace hf := caE hf
  obtain ⟨v4, h3, e_h3, hf⟩ := hf
  have q_h3 := EFc ef_h1 (eX1_isDigit F d hx_h1 e_h3) (by decide)
  have hx_h3 := q_h3.1
  have ef_h3 := q_h3.2
  by_cases c5 : v4 = 0
  · replace hf := ifp c5 hf
    replace hf := caE hf
    obtain ⟨v7, h6, e_h6, hf⟩ := hf
    have q_h6 := EFc ef_h3 (eX2_wrong F d hx_h3 e_h6) (by decide)
    have hx_h6 := q_h6.1
    have ef_h6 := q_h6.2
    replace hf := ckE hf
    obtain ⟨c8, hf⟩ := hf
    cases hf
    exact ⟨hx_h6, ef_h6⟩
  · replace hf := ifn c5 hf
    exact EFj ef_h3 (eX2_number_53 F d F _ _ _ _ _ hx_h3 hf)
set_option maxHeartbeats 4000000 in
theorem eX2_number_14 (F d : Nat) (this : Nat) (s0 : Int32) (h : Hp) (hx : FXs h) {r : Int32 × Hp} (hf : fX2_number_14 F d this s0 h = some r) : FXs r.2 ∧ EF S_X2_number h r.2 := by
  unfold fX2_number_14 at hf
  by_cases c1 : s0 = 0
  · replace hf := ifp c1 hf
    exact EFj (EF.rf (S := S_X2_number) _) (eX2_number_29 F d _ _ _ hx hf)
  · replace hf := ifn c1 hf
    replace hf := bnE hf
    obtain ⟨h2, e_h2, hf⟩ := hf
    have hx_h2 := FX_sI hx e_h2
    have ef_h2 := EF_sI (EF.rf (S := S_X2_number) _) e_h2 (by decide)
    exact EFj ef_h2 (eX2_number_29 F d _ _ _ hx_h2 hf)
set_option maxHeartbeats 4000000 in
theorem eX2_number (F d : Nat) {this : Nat} {h : Hp} (hx : FXs h) {r : Int32 × Hp} (hf : fX2_number F d this h = some r) : FXs r.2 ∧ EF S_X2_number h r.2 := by
  unfold fX2_number at hf
  replace hf := caE hf
  obtain ⟨v2, h1, e_h1, hf⟩ := hf
  have q_h1 := EFc (EF.rf (S := S_X2_number) _) (eX2_look F d hx e_h1) (by decide)
  have hx_h1 := q_h1.1
  have ef_h1 := q_h1.2
  by_cases c3 : v2 = 45
  · replace hf := ifp c3 hf
    exact EFj ef_h1 (eX2_number_14 F d _ _ _ hx_h1 hf)
  · replace hf := ifn c3 hf
    exact EFj ef_h1 (eX2_number_14 F d _ _ _ hx_h1 hf)
abbrev S_X2_bounds : SS := ([202, 203, 213, 214], [], [], [], [])
set_option maxHeartbeats 4000000 in
theorem eX2_bounds (F d : Nat) {this : Nat} {h : Hp} (hx : FXs h) {r : Int32 × Hp} (hf : fX2_bounds F d this h = some r) : FXs r.2 ∧ EF S_X2_bounds h r.2 := by
  unfold fX2_bounds at hf
  replace hf := bnE hf
  obtain ⟨h1, e_h1, hf⟩ := hf
  have hx_h1 := FX_sI hx e_h1
  have ef_h1 := EF_sI (EF.rf (S := S_X2_bounds) _) e_h1 (by decide)
  replace hf := caE hf
  obtain ⟨v3, h2, e_h2, hf⟩ := hf
  have q_h2 := EFc ef_h1 (eX2_number F d hx_h1 e_h2) (by decide)
  have hx_h2 := q_h2.1
  have ef_h2 := q_h2.2
  by_cases c4 : v3 = 0
  · replace hf := ifp c4 hf
    cases hf
    exact ⟨hx_h2, ef_h2⟩
  · replace hf := ifn c4 hf
    replace hf := caE hf
    obtain ⟨v6, h5, e_h5, hf⟩ := hf
    have q_h5 := EFc ef_h2 (eX2_expect F d hx_h2 e_h5) (by decide)
    have hx_h5 := q_h5.1
    have ef_h5 := q_h5.2
    by_cases c7 : v6 = 0
    · replace hf := ifp c7 hf
      cases hf
      exact ⟨hx_h5, ef_h5⟩
    · replace hf := ifn c7 hf
      replace hf := bnE hf
      obtain ⟨v8, e_v8, hf⟩ := hf
      replace hf := caE hf
      obtain ⟨v10, h9, e_h9, hf⟩ := hf
      have q_h9 := EFc ef_h5 (eX2_number F d hx_h5 e_h9) (by decide)
      have hx_h9 := q_h9.1
      have ef_h9 := q_h9.2
      by_cases c11 : v10 = 0
      · replace hf := ifp c11 hf
        cases hf
        exact ⟨hx_h9, ef_h9⟩
      · replace hf := ifn c11 hf
        replace hf := bnE hf
        obtain ⟨h12, e_h12, hf⟩ := hf
        have hx_h12 := FX_sI hx_h9 e_h12
        have ef_h12 := EF_sI ef_h9 e_h12 (by decide)
        replace hf := bnE hf
        obtain ⟨h13, e_h13, hf⟩ := hf
        have hx_h13 := FX_sI hx_h12 e_h13
        have ef_h13 := EF_sI ef_h12 e_h13 (by decide)
        replace hf := caE hf
        obtain ⟨v15, h14, e_h14, hf⟩ := hf
        have q_h14 := EFc ef_h13 (eX2_expect F d hx_h13 e_h14) (by decide)
        have hx_h14 := q_h14.1
        have ef_h14 := q_h14.2
        replace hf := ckE hf
        obtain ⟨c16, hf⟩ := hf
        cases hf
        exact ⟨hx_h14, ef_h14⟩
abbrev S_X8_init : SS := ([], [], [], [], [])
set_option maxHeartbeats 4000000 in
theorem eX8_init (F d : Nat) {this : Nat} {h : Hp} (hx : FXs h) {r : Hp} (hf : fX8_init F d this h = some r) : FXs r ∧ EF S_X8_init h r := by
  unfold fX8_init at hf
  replace hf := cvE hf
  obtain ⟨h1, e_h1, hf⟩ := hf
  have q_h1 := EFc (EF.rf (S := S_X8_init) _) (eX7_init F d hx e_h1) (by decide)
  have hx_h1 := q_h1.1
  have ef_h1 := q_h1.2
  cases hf
  exact ⟨hx_h1, ef_h1⟩
abbrev S_X9_init : SS := ([], [], [], [], [])
set_option maxHeartbeats 4000000 in
theorem eX9_init (F d : Nat) {this : Nat} {h : Hp} (hx : FXs h) {r : Hp} (hf : fX9_init F d this h = some r) : FXs r ∧ EF S_X9_init h r := by
  unfold fX9_init at hf
  replace hf := cvE hf
  obtain ⟨h1, e_h1, hf⟩ := hf
  have q_h1 := EFc (EF.rf (S := S_X9_init) _) (eX8_init F d hx e_h1) (by decide)
  have hx_h1 := q_h1.1
  have ef_h1 := q_h1.2
  cases hf
  exact ⟨hx_h1, ef_h1⟩
abbrev S_X2_numeric : SS := ([], [], [], [205], [6])
set_option maxHeartbeats 4000000 in
theorem eX2_numeric_22 (F d : Nat) (this : Nat) (x1 : Int32) (h : Hp) (hx : FXs h) {r : Option Nat × Hp} (hf : fX2_numeric_22 F d this x1 h = some r) : FXs r.2 ∧ EF S_X2_numeric h r.2 := by
  unfold fX2_numeric_22 at hf
  replace hf := nnE hf
  obtain ⟨a2, e_a2, hf⟩ := hf
  have sa_a2 := hx 205 _ _ e_a2
  replace hf := ckE hf
  obtain ⟨c3, hf⟩ := hf
  replace hf := bnE hf
  obtain ⟨o5, e_o5, hf⟩ := hf
  cases hf
  exact ⟨hx, (EF.rf (S := S_X2_numeric) _)⟩
set_option maxHeartbeats 4000000 in
theorem eX2_numeric (F d : Nat) {this : Nat} {p0 : Int32} {h : Hp} (hx : FXs h) {r : Option Nat × Hp} (hf : fX2_numeric F d this p0 h = some r) : FXs r.2 ∧ EF S_X2_numeric h r.2 := by
  unfold fX2_numeric at hf
  replace hf := nnE hf
  obtain ⟨a2, e_a2, hf⟩ := hf
  have sa_a2 := hx 205 _ _ e_a2
  replace hf := ckE hf
  obtain ⟨c3, hf⟩ := hf
  replace hf := bnE hf
  obtain ⟨o5, e_o5, hf⟩ := hf
  rcases nd_on o5 with e_a6 | ⟨a6, e_a6⟩
  · replace hf := ocN e_a6 hf
    subst e_a6
    replace hf := nnE hf
    obtain ⟨a8, e_a8, hf⟩ := hf
    have sa_a8 := hx 205 _ _ e_a8
    replace hf := bnE hf
    obtain ⟨n11, e_n11, hf⟩ := hf
    replace hf := ckE hf
    obtain ⟨c9, hf⟩ := hf
    replace hf := bnE hf
    obtain ⟨h10, e_h10, hf⟩ := hf
    have hx_h10 := FX_nw hx e_h10
    have ef_h10 := EF_nw (EF.rf (S := S_X2_numeric) _) e_h10 (freE c9).1 (by rw [(freE c9).2]; decide) (by rw [(freE c9).2]; decide) (by decide) (by rw [(freE c9).2]; decide)
    replace hf := cvE hf
    obtain ⟨h12, e_h12, hf⟩ := hf
    have q_h12 := EFc ef_h10 (eX9_init F d hx_h10 e_h12) (by decide)
    have hx_h12 := q_h12.1
    have ef_h12 := q_h12.2
    replace hf := ckE hf
    obtain ⟨c14, hf⟩ := hf
    replace hf := bnE hf
    obtain ⟨h15, e_h15, hf⟩ := hf
    have hx_h15 := FX_sR hx_h12 e_h15
    have ef_h15 := EF_sR ef_h12 e_h15 (f := 205) (by decide) sa_a8
    exact EFj ef_h15 (eX2_numeric_22 F d _ _ _ hx_h15 hf)
  · replace hf := ocS e_a6 hf
    subst e_a6
    exact EFj (EF.rf (S := S_X2_numeric) _) (eX2_numeric_22 F d _ _ _ hx hf)
abbrev S_X8_marked : SS := ([800], [], [], [], [])
set_option maxHeartbeats 4000000 in
theorem eX8_marked (F d : Nat) {this : Nat} {p0 : Int32} {h : Hp} (hx : FXs h) {r : Hp} (hf : fX8_marked F d this p0 h = some r) : FXs r ∧ EF S_X8_marked h r := by
  unfold fX8_marked at hf
  replace hf := bnE hf
  obtain ⟨h1, e_h1, hf⟩ := hf
  have hx_h1 := FX_sI hx e_h1
  have ef_h1 := EF_sI (EF.rf (S := S_X8_marked) _) e_h1 (by decide)
  cases hf
  exact ⟨hx_h1, ef_h1⟩
abbrev S_X9_become : SS := ([800, 900, 901, 902, 903], [], [], [], [])
set_option maxHeartbeats 4000000 in
theorem eX9_become (F d : Nat) {this : Nat} {p0 : Int32} {p1 : Int32} {p2 : Int32} {p3 : Int32} {p4 : Int32} {h : Hp} (hx : FXs h) {r : Option Nat × Hp} (hf : fX9_become F d this p0 p1 p2 p3 p4 h = some r) : FXs r.2 ∧ EF S_X9_become h r.2 := by
  unfold fX9_become at hf
  replace hf := bnE hf
  obtain ⟨h1, e_h1, hf⟩ := hf
  have hx_h1 := FX_sI hx e_h1
  have ef_h1 := EF_sI (EF.rf (S := S_X9_become) _) e_h1 (by decide)
  replace hf := cvE hf
  obtain ⟨h2, e_h2, hf⟩ := hf
  have q_h2 := EFc ef_h1 (eX8_marked F d hx_h1 e_h2) (by decide)
  have hx_h2 := q_h2.1
  have ef_h2 := q_h2.2
  replace hf := ckE hf
  obtain ⟨c5, hf⟩ := hf
  replace hf := bnE hf
  obtain ⟨h4, e_h4, hf⟩ := hf
  have hx_h4 := FX_sI hx_h2 e_h4
  have ef_h4 := EF_sI ef_h2 e_h4 (by decide)
  replace hf := bnE hf
  obtain ⟨h6, e_h6, hf⟩ := hf
  have hx_h6 := FX_sI hx_h4 e_h6
  have ef_h6 := EF_sI ef_h4 e_h6 (by decide)
  replace hf := bnE hf
  obtain ⟨h7, e_h7, hf⟩ := hf
  have hx_h7 := FX_sI hx_h6 e_h7
  have ef_h7 := EF_sI ef_h6 e_h7 (by decide)
  cases hf
  exact ⟨hx_h7, ef_h7⟩
abbrev S_X2_integer : SS := ([202, 203, 213, 214, 800, 900, 901, 902, 903], [], [], [205], [6])
set_option maxHeartbeats 4000000 in
theorem eX2_integer_57 (F d : Nat) (this : Nat) (h : Hp) (hx : FXs h) {r : Option Nat × Hp} (hf : fX2_integer_57 F d this h = some r) : FXs r.2 ∧ EF S_X2_integer h r.2 := by
  unfold fX2_integer_57 at hf
  replace hf := caE hf
  obtain ⟨v2, h1, e_h1, hf⟩ := hf
  have q_h1 := EFc (EF.rf (S := S_X2_integer) _) (eX2_noType F d hx e_h1) (by decide)
  have hx_h1 := q_h1.1
  have ef_h1 := q_h1.2
  cases hf
  exact ⟨hx_h1, ef_h1⟩
set_option maxHeartbeats 4000000 in
theorem eX2_integer (F d : Nat) {this : Nat} {p0 : Int32} {h : Hp} (hx : FXs h) {r : Option Nat × Hp} (hf : fX2_integer F d this p0 h = some r) : FXs r.2 ∧ EF S_X2_integer h r.2 := by
  unfold fX2_integer at hf
  replace hf := caE hf
  obtain ⟨v2, h1, e_h1, hf⟩ := hf
  have q_h1 := EFc (EF.rf (S := S_X2_integer) _) (eX2_look F d hx e_h1) (by decide)
  have hx_h1 := q_h1.1
  have ef_h1 := q_h1.2
  by_cases c3 : v2 = 40
  · replace hf := ifp c3 hf
    replace hf := caE hf
    obtain ⟨v5, h4, e_h4, hf⟩ := hf
    have q_h4 := EFc ef_h1 (eX2_bounds F d hx_h1 e_h4) (by decide)
    have hx_h4 := q_h4.1
    have ef_h4 := q_h4.2
    by_cases c6 : v5 = 0
    · replace hf := ifp c6 hf
      cases hf
      exact ⟨hx_h4, ef_h4⟩
    · replace hf := ifn c6 hf
      by_cases c7 : (gI h4 214 this) < (gI h4 213 this)
      · replace hf := ifp c7 hf
        exact EFj ef_h4 (eX2_integer_57 F d _ _ hx_h4 hf)
      · replace hf := ifn c7 hf
        by_cases c8 : ((gI h4 214 this) - (gI h4 213 this)) ≤ 65535
        · replace hf := ifp c8 hf
          replace hf := caE hf
          obtain ⟨v10, h9, e_h9, hf⟩ := hf
          have q_h9 := EFc ef_h4 (eX2_numeric F d hx_h4 e_h9) (by decide)
          have hx_h9 := q_h9.1
          have ef_h9 := q_h9.2
          replace hf := nnE hf
          obtain ⟨a12, e_a12, hf⟩ := hf
          subst e_a12
          replace hf := caE hf
          obtain ⟨v14, h13, e_h13, hf⟩ := hf
          have q_h13 := EFc ef_h9 (eX9_become F d hx_h9 e_h13) (by decide)
          have hx_h13 := q_h13.1
          have ef_h13 := q_h13.2
          cases hf
          exact ⟨hx_h13, ef_h13⟩
        · replace hf := ifn c8 hf
          exact EFj ef_h4 (eX2_integer_57 F d _ _ hx_h4 hf)
  · replace hf := ifn c3 hf
    replace hf := caE hf
    obtain ⟨v17, h16, e_h16, hf⟩ := hf
    have q_h16 := EFc ef_h1 (eX2_numeric F d hx_h1 e_h16) (by decide)
    have hx_h16 := q_h16.1
    have ef_h16 := q_h16.2
    replace hf := nnE hf
    obtain ⟨a19, e_a19, hf⟩ := hf
    subst e_a19
    replace hf := caE hf
    obtain ⟨v21, h20, e_h20, hf⟩ := hf
    have q_h20 := EFc ef_h16 (eX9_become F d hx_h16 e_h20) (by decide)
    have hx_h20 := q_h20.1
    have ef_h20 := q_h20.2
    cases hf
    exact ⟨hx_h20, ef_h20⟩
abbrev S_X2_isLetter : SS := ([], [], [], [], [])
set_option maxHeartbeats 4000000 in
theorem eX2_isLetter (F d : Nat) {p0 : Int32} {h : Hp} (hx : FXs h) {r : Int32 × Hp} (hf : fX2_isLetter F d p0 h = some r) : FXs r.2 ∧ EF S_X2_isLetter h r.2 := by
  unfold fX2_isLetter at hf
  by_cases c1 : p0 = 98
  · replace hf := ifp c1 hf
    cases hf
    exact ⟨hx, (EF.rf (S := S_X2_isLetter) _)⟩
  · replace hf := ifn c1 hf
    by_cases c2 : p0 = 105
    · replace hf := ifp c2 hf
      cases hf
      exact ⟨hx, (EF.rf (S := S_X2_isLetter) _)⟩
    · replace hf := ifn c2 hf
      by_cases c3 : p0 = 111
      · replace hf := ifp c3 hf
        cases hf
        exact ⟨hx, (EF.rf (S := S_X2_isLetter) _)⟩
      · replace hf := ifn c3 hf
        by_cases c4 : p0 = 110
        · replace hf := ifp c4 hf
          cases hf
          exact ⟨hx, (EF.rf (S := S_X2_isLetter) _)⟩
        · replace hf := ifn c4 hf
          by_cases c5 : p0 = 113
          · replace hf := ifp c5 hf
            cases hf
            exact ⟨hx, (EF.rf (S := S_X2_isLetter) _)⟩
          · replace hf := ifn c5 hf
            by_cases c6 : p0 = 108
            · replace hf := ifp c6 hf
              cases hf
              exact ⟨hx, (EF.rf (S := S_X2_isLetter) _)⟩
            · replace hf := ifn c6 hf
              by_cases c7 : p0 = 99
              · replace hf := ifp c7 hf
                cases hf
                exact ⟨hx, (EF.rf (S := S_X2_isLetter) _)⟩
              · replace hf := ifn c7 hf
                cases hf
                exact ⟨hx, (EF.rf (S := S_X2_isLetter) _)⟩
abbrev S_X2_isName : SS := ([], [], [], [], [])
set_option maxHeartbeats 4000000 in
theorem eX2_isName (F d : Nat) {this : Nat} {h : Hp} (hx : FXs h) {r : Int32 × Hp} (hf : fX2_isName F d this h = some r) : FXs r.2 ∧ EF S_X2_isName h r.2 := by
  unfold fX2_isName at hf
  by_cases c1 : (gI h 201 this) ≤ (gI h 202 this)
  · replace hf := ifp c1 hf
    cases hf
    exact ⟨hx, (EF.rf (S := S_X2_isName) _)⟩
  · replace hf := ifn c1 hf
    replace hf := caE hf
    obtain ⟨v3, h2, e_h2, hf⟩ := hf
    have q_h2 := EFc (EF.rf (S := S_X2_isName) _) (eX2_look F d hx e_h2) (by decide)
    have hx_h2 := q_h2.1
    have ef_h2 := q_h2.2
    by_cases c4 : v3 < 65
    · replace hf := ifp c4 hf
      cases hf
      exact ⟨hx_h2, ef_h2⟩
    · replace hf := ifn c4 hf
      replace hf := caE hf
      obtain ⟨v6, h5, e_h5, hf⟩ := hf
      have q_h5 := EFc ef_h2 (eX2_look F d hx_h2 e_h5) (by decide)
      have hx_h5 := q_h5.1
      have ef_h5 := q_h5.2
      by_cases c7 : 90 < v6
      · replace hf := ifp c7 hf
        cases hf
        exact ⟨hx_h5, ef_h5⟩
      · replace hf := ifn c7 hf
        cases hf
        exact ⟨hx_h5, ef_h5⟩
abbrev S_X10_height : SS := ([], [], [], [], [])
set_option maxHeartbeats 4000000 in
theorem eX10_height_40 (F d : Nat) (R_height : Nat → Hp → Option (Int32 × Hp)) (hE_height : ∀ {b : Nat} {h : Hp} (_ : FXs h) {r : Int32 × Hp}, R_height b h = some r → FXs r.2 ∧ EF SV_height h r.2) (k_4 : Nat → Int32 → Int32 → Hp → Option (Int32 × Hp)) (hk_4 : ∀ (this : Nat) (x1 : Int32) (x2 : Int32) (h : Hp) (hx : FXs h) {r : Int32 × Hp}, k_4 this x1 x2 h = some r → FXs r.2 ∧ EF S_X10_height h r.2) (this : Nat) (x2 : Int32) (s0 : Int32) (h : Hp) (hx : FXs h) {r : Int32 × Hp} (hf : fX10_height_40 F d R_height k_4 this x2 s0 h = some r) : FXs r.2 ∧ EF S_X10_height h r.2 := by
  unfold fX10_height_40 at hf
  replace hf := bnE hf
  obtain ⟨v1, e_v1, hf⟩ := hf
  exact EFj (EF.rf (S := S_X10_height) _) (hk_4 _ _ _ _ hx hf)
set_option maxHeartbeats 4000000 in
theorem eX10_height_4 (F d : Nat) (R_height : Nat → Hp → Option (Int32 × Hp)) (hE_height : ∀ {b : Nat} {h : Hp} (_ : FXs h) {r : Int32 × Hp}, R_height b h = some r → FXs r.2 ∧ EF SV_height h r.2) : ∀ (n : Nat) (this : Nat) (x1 : Int32) (x2 : Int32) (h : Hp) (hx : FXs h) {r : Int32 × Hp}, fX10_height_4 F d R_height n this x1 x2 h = some r → FXs r.2 ∧ EF S_X10_height h r.2 := by
  intro n
  induction n with
  | zero => intro _ _ _ _ _ r hf; cases hf
  | succ n ih =>
    intro this x1 x2 h hx r hf
    unfold fX10_height_4 at hf
    by_cases c1 : (gI h 1001 this) ≤ x2
    · replace hf := ifp c1 hf
      cases hf
      exact ⟨hx, (EF.rf (S := S_X10_height) _)⟩
    · replace hf := ifn c1 hf
      replace hf := nnE hf
      obtain ⟨a3, e_a3, hf⟩ := hf
      have sa_a3 := hx 1000 _ _ e_a3
      replace hf := ckE hf
      obtain ⟨c4, hf⟩ := hf
      replace hf := bnE hf
      obtain ⟨o6, e_o6, hf⟩ := hf
      replace hf := nnE hf
      obtain ⟨a7, e_a7, hf⟩ := hf
      subst e_a7
      replace hf := caE hf
      obtain ⟨v9, h8, e_h8, hf⟩ := hf
      have q_h8 := EFc (EF.rf (S := S_X10_height) _) (hE_height hx e_h8) (by decide)
      have hx_h8 := q_h8.1
      have ef_h8 := q_h8.2
      by_cases c10 : v9 < x1
      · replace hf := ifp c10 hf
        exact EFj ef_h8 (eX10_height_40 F d R_height hE_height (fX10_height_4 F d R_height n) ih _ _ _ _ hx_h8 hf)
      · replace hf := ifn c10 hf
        replace hf := nnE hf
        obtain ⟨a12, e_a12, hf⟩ := hf
        have sa_a12 := hx_h8 1000 _ _ e_a12
        replace hf := ckE hf
        obtain ⟨c13, hf⟩ := hf
        replace hf := bnE hf
        obtain ⟨o15, e_o15, hf⟩ := hf
        replace hf := nnE hf
        obtain ⟨a16, e_a16, hf⟩ := hf
        subst e_a16
        replace hf := caE hf
        obtain ⟨v18, h17, e_h17, hf⟩ := hf
        have q_h17 := EFc ef_h8 (hE_height hx_h8 e_h17) (by decide)
        have hx_h17 := q_h17.1
        have ef_h17 := q_h17.2
        exact EFj ef_h17 (eX10_height_40 F d R_height hE_height (fX10_height_4 F d R_height n) ih _ _ _ _ hx_h17 hf)
set_option maxHeartbeats 4000000 in
theorem eX10_height (F d : Nat) (R_height : Nat → Hp → Option (Int32 × Hp)) (hE_height : ∀ {b : Nat} {h : Hp} (_ : FXs h) {r : Int32 × Hp}, R_height b h = some r → FXs r.2 ∧ EF SV_height h r.2) {this : Nat} {h : Hp} (hx : FXs h) {r : Int32 × Hp} (hf : fX10_height F d R_height this h = some r) : FXs r.2 ∧ EF S_X10_height h r.2 := by
  unfold fX10_height at hf
  exact EFj (EF.rf (S := S_X10_height) _) (eX10_height_4 F d R_height hE_height F _ _ _ _ hx hf)
abbrev S_X15_height : SS := ([], [], [], [], [])
set_option maxHeartbeats 4000000 in
theorem eX15_height (F d : Nat) (R_height : Nat → Hp → Option (Int32 × Hp)) (hE_height : ∀ {b : Nat} {h : Hp} (_ : FXs h) {r : Int32 × Hp}, R_height b h = some r → FXs r.2 ∧ EF SV_height h r.2) {this : Nat} {h : Hp} (hx : FXs h) {r : Int32 × Hp} (hf : fX15_height F d R_height this h = some r) : FXs r.2 ∧ EF S_X15_height h r.2 := by
  unfold fX15_height at hf
  replace hf := bnE hf
  obtain ⟨o2, e_o2, hf⟩ := hf
  replace hf := nnE hf
  obtain ⟨a3, e_a3, hf⟩ := hf
  subst e_a3
  replace hf := caE hf
  obtain ⟨v5, h4, e_h4, hf⟩ := hf
  have q_h4 := EFc (EF.rf (S := S_X15_height) _) (hE_height hx e_h4) (by decide)
  have hx_h4 := q_h4.1
  have ef_h4 := q_h4.2
  cases hf
  exact ⟨hx_h4, ef_h4⟩
abbrev S_X8_height : SS := ([], [], [], [], [])
set_option maxHeartbeats 4000000 in
theorem eX8_height (F d : Nat) {this : Nat} {h : Hp} (hx : FXs h) {r : Int32 × Hp} (hf : fX8_height F d this h = some r) : FXs r.2 ∧ EF S_X8_height h r.2 := by
  unfold fX8_height at hf
  cases hf
  exact ⟨hx, (EF.rf (S := S_X8_height) _)⟩
abbrev S_X16_height : SS := ([], [], [], [], [])
set_option maxHeartbeats 4000000 in
theorem eX16_height (F d : Nat) (R_height : Nat → Hp → Option (Int32 × Hp)) (hE_height : ∀ {b : Nat} {h : Hp} (_ : FXs h) {r : Int32 × Hp}, R_height b h = some r → FXs r.2 ∧ EF SV_height h r.2) {this : Nat} {h : Hp} (hx : FXs h) {r : Int32 × Hp} (hf : fX16_height F d R_height this h = some r) : FXs r.2 ∧ EF S_X16_height h r.2 := by
  unfold fX16_height at hf
  replace hf := nnE hf
  obtain ⟨a2, e_a2, hf⟩ := hf
  replace hf := caE hf
  obtain ⟨v4, h3, e_h3, hf⟩ := hf
  have q_h3 := EFc (EF.rf (S := S_X16_height) _) (hE_height hx e_h3) (by decide)
  have hx_h3 := q_h3.1
  have ef_h3 := q_h3.2
  cases hf
  exact ⟨hx_h3, ef_h3⟩
set_option maxHeartbeats 4000000 in
theorem ev_height (F : Nat) : ∀ (d : Nat) {b : Nat} {h : Hp} (_ : FXs h) {r : Int32 × Hp}, v_height F d b h = some r → FXs r.2 ∧ EF SV_height h r.2 := by
  intro d
  induction d with
  | zero => intro b h hx r hf; cases hf
  | succ d ih =>
    intro b h hx r hf
    unfold v_height at hf
    by_cases e_ : nd_Kd b = 6
    · replace hf := ifp e_ hf
      exact EFc (EF.rf (S := SV_height) _) (eX8_height F d hx hf) (by decide)
    replace hf := ifn e_ hf
    by_cases e_ : nd_Kd b = 7
    · replace hf := ifp e_ hf
      exact EFc (EF.rf (S := SV_height) _) (eX10_height F d (v_height F d) ih hx hf) (by decide)
    replace hf := ifn e_ hf
    by_cases e_ : nd_Kd b = 8
    · replace hf := ifp e_ hf
      exact EFc (EF.rf (S := SV_height) _) (eX10_height F d (v_height F d) ih hx hf) (by decide)
    replace hf := ifn e_ hf
    by_cases e_ : nd_Kd b = 9
    · replace hf := ifp e_ hf
      exact EFc (EF.rf (S := SV_height) _) (eX8_height F d hx hf) (by decide)
    replace hf := ifn e_ hf
    by_cases e_ : nd_Kd b = 11
    · replace hf := ifp e_ hf
      exact EFc (EF.rf (S := SV_height) _) (eX15_height F d (v_height F d) ih hx hf) (by decide)
    replace hf := ifn e_ hf
    by_cases e_ : nd_Kd b = 12
    · replace hf := ifp e_ hf
      exact EFc (EF.rf (S := SV_height) _) (eX16_height F d (v_height F d) ih hx hf) (by decide)
    replace hf := ifn e_ hf
    cases hf
abbrev S_X2_named : SS := ([202, 203], [], [], [], [])
set_option maxHeartbeats 4000000 in
theorem eX2_named (F d : Nat) {this : Nat} {p0 : Int32} {h : Hp} (hx : FXs h) {r : Option Nat × Hp} (hf : fX2_named F d this p0 h = some r) : FXs r.2 ∧ EF S_X2_named h r.2 := by
  unfold fX2_named at hf
  replace hf := nnE hf
  obtain ⟨a2, e_a2, hf⟩ := hf
  have sa_a2 := hx 204 _ _ e_a2
  replace hf := caE hf
  obtain ⟨v4, h3, e_h3, hf⟩ := hf
  have q_h3 := EFc (EF.rf (S := S_X2_named) _) (eX2_look F d hx e_h3) (by decide)
  have hx_h3 := q_h3.1
  have ef_h3 := q_h3.2
  replace hf := ckE hf
  obtain ⟨c5, hf⟩ := hf
  replace hf := bnE hf
  obtain ⟨o7, e_o7, hf⟩ := hf
  rcases nd_on o7 with e_a8 | ⟨a8, e_a8⟩
  · replace hf := ocN e_a8 hf
    subst e_a8
    replace hf := caE hf
    obtain ⟨v10, h9, e_h9, hf⟩ := hf
    have q_h9 := EFc ef_h3 (eX2_noType F d hx_h3 e_h9) (by decide)
    have hx_h9 := q_h9.1
    have ef_h9 := q_h9.2
    cases hf
    exact ⟨hx_h9, ef_h9⟩
  · replace hf := ocS e_a8 hf
    subst e_a8
    replace hf := caE hf
    obtain ⟨v13, h12, e_h12, hf⟩ := hf
    have q_h12 := EFc ef_h3 (ev_height F d hx_h3 e_h12) (by decide)
    have hx_h12 := q_h12.1
    have ef_h12 := q_h12.2
    by_cases c14 : (p0 + v13) < 6
    · replace hf := ifp c14 hf
      replace hf := bnE hf
      obtain ⟨h15, e_h15, hf⟩ := hf
      have hx_h15 := FX_sI hx_h12 e_h15
      have ef_h15 := EF_sI ef_h12 e_h15 (by decide)
      cases hf
      exact ⟨hx_h15, ef_h15⟩
    · replace hf := ifn c14 hf
      replace hf := caE hf
      obtain ⟨v17, h16, e_h16, hf⟩ := hf
      have q_h16 := EFc ef_h12 (eX2_noType F d hx_h12 e_h16) (by decide)
      have hx_h16 := q_h16.1
      have ef_h16 := q_h16.2
      cases hf
      exact ⟨hx_h16, ef_h16⟩
abbrev S_X14_become : SS := ([1400, 1401, 1402], [], [], [], [])
set_option maxHeartbeats 4000000 in
theorem eX14_become (F d : Nat) {this : Nat} {p0 : Int32} {p1 : Int32} {p2 : Int32} {h : Hp} (hx : FXs h) {r : Hp} (hf : fX14_become F d this p0 p1 p2 h = some r) : FXs r ∧ EF S_X14_become h r := by
  unfold fX14_become at hf
  replace hf := ckE hf
  obtain ⟨c2, hf⟩ := hf
  replace hf := bnE hf
  obtain ⟨h1, e_h1, hf⟩ := hf
  have hx_h1 := FX_sI hx e_h1
  have ef_h1 := EF_sI (EF.rf (S := S_X14_become) _) e_h1 (by decide)
  replace hf := bnE hf
  obtain ⟨h3, e_h3, hf⟩ := hf
  have hx_h3 := FX_sI hx_h1 e_h3
  have ef_h3 := EF_sI ef_h1 e_h3 (by decide)
  replace hf := bnE hf
  obtain ⟨h4, e_h4, hf⟩ := hf
  have hx_h4 := FX_sI hx_h3 e_h4
  have ef_h4 := EF_sI ef_h3 e_h4 (by decide)
  cases hf
  exact ⟨hx_h4, ef_h4⟩
abbrev S_X2_bounded : SS := ([202, 203, 213, 214, 1400, 1401, 1402], [], [], [], [])
set_option maxHeartbeats 4000000 in
theorem eX2_bounded_54 (F d : Nat) (this : Nat) (h : Hp) (hx : FXs h) {r : Int32 × Hp} (hf : fX2_bounded_54 F d this h = some r) : FXs r.2 ∧ EF S_X2_bounded h r.2 := by
  unfold fX2_bounded_54 at hf
  replace hf := caE hf
  obtain ⟨v2, h1, e_h1, hf⟩ := hf
  have q_h1 := EFc (EF.rf (S := S_X2_bounded) _) (eX2_wrong F d hx e_h1) (by decide)
  have hx_h1 := q_h1.1
  have ef_h1 := q_h1.2
  replace hf := ckE hf
  obtain ⟨c3, hf⟩ := hf
  cases hf
  exact ⟨hx_h1, ef_h1⟩
set_option maxHeartbeats 4000000 in
theorem eX2_bounded (F d : Nat) {this : Nat} {p0 : Nat} {h : Hp} (hx : FXs h) {r : Int32 × Hp} (hf : fX2_bounded F d this p0 h = some r) : FXs r.2 ∧ EF S_X2_bounded h r.2 := by
  unfold fX2_bounded at hf
  replace hf := cvE hf
  obtain ⟨h1, e_h1, hf⟩ := hf
  have q_h1 := EFc (EF.rf (S := S_X2_bounded) _) (eX14_become F d hx e_h1) (by decide)
  have hx_h1 := q_h1.1
  have ef_h1 := q_h1.2
  replace hf := caE hf
  obtain ⟨v4, h3, e_h3, hf⟩ := hf
  have q_h3 := EFc ef_h1 (eX2_look F d hx_h1 e_h3) (by decide)
  have hx_h3 := q_h3.1
  have ef_h3 := q_h3.2
  by_cases c5 : v4 = 40
  · replace hf := ifp c5 hf
    replace hf := caE hf
    obtain ⟨v7, h6, e_h6, hf⟩ := hf
    have q_h6 := EFc ef_h3 (eX2_bounds F d hx_h3 e_h6) (by decide)
    have hx_h6 := q_h6.1
    have ef_h6 := q_h6.2
    by_cases c8 : v7 = 0
    · replace hf := ifp c8 hf
      cases hf
      exact ⟨hx_h6, ef_h6⟩
    · replace hf := ifn c8 hf
      by_cases c9 : (gI h6 213 this) < 0
      · replace hf := ifp c9 hf
        exact EFj ef_h6 (eX2_bounded_54 F d _ _ hx_h6 hf)
      · replace hf := ifn c9 hf
        by_cases c10 : (gI h6 214 this) < (gI h6 213 this)
        · replace hf := ifp c10 hf
          exact EFj ef_h6 (eX2_bounded_54 F d _ _ hx_h6 hf)
        · replace hf := ifn c10 hf
          by_cases c11 : (gI h6 214 this) ≤ 20
          · replace hf := ifp c11 hf
            replace hf := cvE hf
            obtain ⟨h12, e_h12, hf⟩ := hf
            have q_h12 := EFc ef_h6 (eX14_become F d hx_h6 e_h12) (by decide)
            have hx_h12 := q_h12.1
            have ef_h12 := q_h12.2
            cases hf
            exact ⟨hx_h12, ef_h12⟩
          · replace hf := ifn c11 hf
            exact EFj ef_h6 (eX2_bounded_54 F d _ _ hx_h6 hf)
  · replace hf := ifn c5 hf
    cases hf
    exact ⟨hx_h3, ef_h3⟩
abbrev S_X14_init : SS := ([], [], [], [], [])
set_option maxHeartbeats 4000000 in
theorem eX14_init (F d : Nat) {this : Nat} {h : Hp} (hx : FXs h) {r : Hp} (hf : fX14_init F d this h = some r) : FXs r ∧ EF S_X14_init h r := by
  unfold fX14_init at hf
  cases hf
  exact ⟨hx, (EF.rf (S := S_X14_init) _)⟩
abbrev S_X13_init : SS := ([], [1300], [], [], [10])
set_option maxHeartbeats 4000000 in
theorem eX13_init (F d : Nat) {this : Nat} {h : Hp} (hx : FXs h) {r : Hp} (hf : fX13_init F d this h = some r) : FXs r ∧ EF S_X13_init h r := by
  unfold fX13_init at hf
  replace hf := cvE hf
  obtain ⟨h1, e_h1, hf⟩ := hf
  have q_h1 := EFc (EF.rf (S := S_X13_init) _) (eX8_init F d hx e_h1) (by decide)
  have hx_h1 := q_h1.1
  have ef_h1 := q_h1.2
  replace hf := bnE hf
  obtain ⟨n5, e_n5, hf⟩ := hf
  replace hf := ckE hf
  obtain ⟨c3, hf⟩ := hf
  replace hf := bnE hf
  obtain ⟨h4, e_h4, hf⟩ := hf
  have hx_h4 := FX_nw hx_h1 e_h4
  have ef_h4 := EF_nw ef_h1 e_h4 (freE c3).1 (by rw [(freE c3).2]; decide) (by rw [(freE c3).2]; decide) (by decide) (by rw [(freE c3).2]; decide)
  replace hf := cvE hf
  obtain ⟨h6, e_h6, hf⟩ := hf
  have q_h6 := EFc ef_h4 (eX14_init F d hx_h4 e_h6) (by decide)
  have hx_h6 := q_h6.1
  have ef_h6 := q_h6.2
  replace hf := bnE hf
  obtain ⟨h8, e_h8, hf⟩ := hf
  have hx_h8 := FX_sP hx_h6 e_h8 (fun b e => rfl)
  have ef_h8 := EF_sP ef_h6 e_h8 (by decide)
  cases hf
  exact ⟨hx_h8, ef_h8⟩
abbrev S_X2_octetsAt : SS := ([202, 203, 213, 214, 800, 1400, 1401, 1402], [1300], [], [206], [9, 10])
set_option maxHeartbeats 4000000 in
theorem eX2_octetsAt_22 (F d : Nat) (this : Nat) (x1 : Int32) (h : Hp) (hx : FXs h) {r : Option Nat × Hp} (hf : fX2_octetsAt_22 F d this x1 h = some r) : FXs r.2 ∧ EF S_X2_octetsAt h r.2 := by
  unfold fX2_octetsAt_22 at hf
  replace hf := nnE hf
  obtain ⟨a2, e_a2, hf⟩ := hf
  have sa_a2 := hx 206 _ _ e_a2
  replace hf := ckE hf
  obtain ⟨c3, hf⟩ := hf
  replace hf := bnE hf
  obtain ⟨o5, e_o5, hf⟩ := hf
  replace hf := nnE hf
  obtain ⟨a6, e_a6, hf⟩ := hf
  subst e_a6
  replace hf := cvE hf
  obtain ⟨h7, e_h7, hf⟩ := hf
  have q_h7 := EFc (EF.rf (S := S_X2_octetsAt) _) (eX8_marked F d hx e_h7) (by decide)
  have hx_h7 := q_h7.1
  have ef_h7 := q_h7.2
  replace hf := nnE hf
  obtain ⟨a10, e_a10, hf⟩ := hf
  have sa_a10 := hx_h7 206 _ _ e_a10
  replace hf := ckE hf
  obtain ⟨c11, hf⟩ := hf
  replace hf := bnE hf
  obtain ⟨o13, e_o13, hf⟩ := hf
  replace hf := nnE hf
  obtain ⟨a14, e_a14, hf⟩ := hf
  subst e_a14
  replace hf := nnE hf
  obtain ⟨a16, e_a16, hf⟩ := hf
  replace hf := caE hf
  obtain ⟨v18, h17, e_h17, hf⟩ := hf
  have q_h17 := EFc ef_h7 (eX2_bounded F d hx_h7 e_h17) (by decide)
  have hx_h17 := q_h17.1
  have ef_h17 := q_h17.2
  by_cases c19 : v18 = 0
  · replace hf := ifp c19 hf
    cases hf
    exact ⟨hx_h17, ef_h17⟩
  · replace hf := ifn c19 hf
    replace hf := nnE hf
    obtain ⟨a21, e_a21, hf⟩ := hf
    have sa_a21 := hx_h17 206 _ _ e_a21
    replace hf := ckE hf
    obtain ⟨c22, hf⟩ := hf
    replace hf := bnE hf
    obtain ⟨o24, e_o24, hf⟩ := hf
    cases hf
    exact ⟨hx_h17, ef_h17⟩
set_option maxHeartbeats 4000000 in
theorem eX2_octetsAt (F d : Nat) {this : Nat} {p0 : Int32} {h : Hp} (hx : FXs h) {r : Option Nat × Hp} (hf : fX2_octetsAt F d this p0 h = some r) : FXs r.2 ∧ EF S_X2_octetsAt h r.2 := by
  unfold fX2_octetsAt at hf
  replace hf := nnE hf
  obtain ⟨a2, e_a2, hf⟩ := hf
  have sa_a2 := hx 206 _ _ e_a2
  replace hf := ckE hf
  obtain ⟨c3, hf⟩ := hf
  replace hf := bnE hf
  obtain ⟨o5, e_o5, hf⟩ := hf
  rcases nd_on o5 with e_a6 | ⟨a6, e_a6⟩
  · replace hf := ocN e_a6 hf
    subst e_a6
    replace hf := nnE hf
    obtain ⟨a8, e_a8, hf⟩ := hf
    have sa_a8 := hx 206 _ _ e_a8
    replace hf := bnE hf
    obtain ⟨n11, e_n11, hf⟩ := hf
    replace hf := ckE hf
    obtain ⟨c9, hf⟩ := hf
    replace hf := bnE hf
    obtain ⟨h10, e_h10, hf⟩ := hf
    have hx_h10 := FX_nw hx e_h10
    have ef_h10 := EF_nw (EF.rf (S := S_X2_octetsAt) _) e_h10 (freE c9).1 (by rw [(freE c9).2]; decide) (by rw [(freE c9).2]; decide) (by decide) (by rw [(freE c9).2]; decide)
    replace hf := cvE hf
    obtain ⟨h12, e_h12, hf⟩ := hf
    have q_h12 := EFc ef_h10 (eX13_init F d hx_h10 e_h12) (by decide)
    have hx_h12 := q_h12.1
    have ef_h12 := q_h12.2
    replace hf := ckE hf
    obtain ⟨c14, hf⟩ := hf
    replace hf := bnE hf
    obtain ⟨h15, e_h15, hf⟩ := hf
    have hx_h15 := FX_sR hx_h12 e_h15
    have ef_h15 := EF_sR ef_h12 e_h15 (f := 206) (by decide) sa_a8
    exact EFj ef_h15 (eX2_octetsAt_22 F d _ _ _ hx_h15 hf)
  · replace hf := ocS e_a6 hf
    subst e_a6
    exact EFj (EF.rf (S := S_X2_octetsAt) _) (eX2_octetsAt_22 F d _ _ _ hx hf)
abbrev S_X1_outside : SS := ([], [], [], [], [])
set_option maxHeartbeats 4000000 in
theorem eX1_outside (F d : Nat) {p0 : Int32} {p1 : Int32} {p2 : Int32} {h : Hp} (hx : FXs h) {r : Int32 × Hp} (hf : fX1_outside F d p0 p1 p2 h = some r) : FXs r.2 ∧ EF S_X1_outside h r.2 := by
  unfold fX1_outside at hf
  by_cases c1 : p0 < p1
  · replace hf := ifp c1 hf
    cases hf
    exact ⟨hx, (EF.rf (S := S_X1_outside) _)⟩
  · replace hf := ifn c1 hf
    by_cases c2 : p0 ≤ p2
    · replace hf := ifp c2 hf
      cases hf
      exact ⟨hx, (EF.rf (S := S_X1_outside) _)⟩
    · replace hf := ifn c2 hf
      cases hf
      exact ⟨hx, (EF.rf (S := S_X1_outside) _)⟩
abbrev S_X9_isRight : SS := ([], [], [], [], [])
set_option maxHeartbeats 4000000 in
theorem eX9_isRight (F d : Nat) {this : Nat} {p0 : Int32} {h : Hp} (hx : FXs h) {r : Int32 × Hp} (hf : fX9_isRight F d this p0 h = some r) : FXs r.2 ∧ EF S_X9_isRight h r.2 := by
  unfold fX9_isRight at hf
  by_cases c1 : (gI h 901 this) = 0
  · replace hf := ifp c1 hf
    cases hf
    exact ⟨hx, (EF.rf (S := S_X9_isRight) _)⟩
  · replace hf := ifn c1 hf
    replace hf := caE hf
    obtain ⟨v3, h2, e_h2, hf⟩ := hf
    have q_h2 := EFc (EF.rf (S := S_X9_isRight) _) (eX1_outside F d hx e_h2) (by decide)
    have hx_h2 := q_h2.1
    have ef_h2 := q_h2.2
    by_cases c4 : v3 = 0
    · replace hf := ifp c4 hf
      cases hf
      exact ⟨hx_h2, ef_h2⟩
    · replace hf := ifn c4 hf
      cases hf
      exact ⟨hx_h2, ef_h2⟩
abbrev S_X9_holds : SS := ([], [], [], [], [])
set_option maxHeartbeats 4000000 in
theorem eX9_holds (F d : Nat) {this : Nat} {p0 : Int32} {h : Hp} (hx : FXs h) {r : Int32 × Hp} (hf : fX9_holds F d this p0 h = some r) : FXs r.2 ∧ EF S_X9_holds h r.2 := by
  unfold fX9_holds at hf
  by_cases c1 : (gI h 900 this) = 5
  · replace hf := ifp c1 hf
    cases hf
    exact ⟨hx, (EF.rf (S := S_X9_holds) _)⟩
  · replace hf := ifn c1 hf
    replace hf := caE hf
    obtain ⟨v3, h2, e_h2, hf⟩ := hf
    have q_h2 := EFc (EF.rf (S := S_X9_holds) _) (eX9_isRight F d hx e_h2) (by decide)
    have hx_h2 := q_h2.1
    have ef_h2 := q_h2.2
    by_cases c4 : v3 = 0
    · replace hf := ifp c4 hf
      cases hf
      exact ⟨hx_h2, ef_h2⟩
    · replace hf := ifn c4 hf
      cases hf
      exact ⟨hx_h2, ef_h2⟩
abbrev S_X16_holds : SS := ([], [], [], [], [])
set_option maxHeartbeats 4000000 in
theorem eX16_holds (F d : Nat) (R_holds : Nat → Int32 → Hp → Option (Int32 × Hp)) (hE_holds : ∀ {b : Nat} {p0 : Int32} {h : Hp} (_ : FXs h) {r : Int32 × Hp}, R_holds b p0 h = some r → FXs r.2 ∧ EF SV_holds h r.2) {this : Nat} {p0 : Int32} {h : Hp} (hx : FXs h) {r : Int32 × Hp} (hf : fX16_holds F d R_holds this p0 h = some r) : FXs r.2 ∧ EF S_X16_holds h r.2 := by
  unfold fX16_holds at hf
  replace hf := nnE hf
  obtain ⟨a2, e_a2, hf⟩ := hf
  replace hf := caE hf
  obtain ⟨v4, h3, e_h3, hf⟩ := hf
  have q_h3 := EFc (EF.rf (S := S_X16_holds) _) (hE_holds hx e_h3) (by decide)
  have hx_h3 := q_h3.1
  have ef_h3 := q_h3.2
  replace hf := ckE hf
  obtain ⟨c5, hf⟩ := hf
  cases hf
  exact ⟨hx_h3, ef_h3⟩
abbrev S_X7_holds : SS := ([], [], [], [], [])
set_option maxHeartbeats 4000000 in
theorem eX7_holds (F d : Nat) {this : Nat} {p0 : Int32} {h : Hp} (hx : FXs h) {r : Int32 × Hp} (hf : fX7_holds F d this p0 h = some r) : FXs r.2 ∧ EF S_X7_holds h r.2 := by
  unfold fX7_holds at hf
  cases hf
  exact ⟨hx, (EF.rf (S := S_X7_holds) _)⟩
set_option maxHeartbeats 4000000 in
theorem ev_holds (F : Nat) : ∀ (d : Nat) {b : Nat} {p0 : Int32} {h : Hp} (_ : FXs h) {r : Int32 × Hp}, v_holds F d b p0 h = some r → FXs r.2 ∧ EF SV_holds h r.2 := by
  intro d
  induction d with
  | zero => intro b p0 h hx r hf; cases hf
  | succ d ih =>
    intro b p0 h hx r hf
    unfold v_holds at hf
    by_cases e_ : nd_Kd b = 6
    · replace hf := ifp e_ hf
      exact EFc (EF.rf (S := SV_holds) _) (eX9_holds F d hx hf) (by decide)
    replace hf := ifn e_ hf
    by_cases e_ : nd_Kd b = 7
    · replace hf := ifp e_ hf
      exact EFc (EF.rf (S := SV_holds) _) (eX7_holds F d hx hf) (by decide)
    replace hf := ifn e_ hf
    by_cases e_ : nd_Kd b = 8
    · replace hf := ifp e_ hf
      exact EFc (EF.rf (S := SV_holds) _) (eX7_holds F d hx hf) (by decide)
    replace hf := ifn e_ hf
    by_cases e_ : nd_Kd b = 9
    · replace hf := ifp e_ hf
      exact EFc (EF.rf (S := SV_holds) _) (eX7_holds F d hx hf) (by decide)
    replace hf := ifn e_ hf
    by_cases e_ : nd_Kd b = 11
    · replace hf := ifp e_ hf
      exact EFc (EF.rf (S := SV_holds) _) (eX7_holds F d hx hf) (by decide)
    replace hf := ifn e_ hf
    by_cases e_ : nd_Kd b = 12
    · replace hf := ifp e_ hf
      exact EFc (EF.rf (S := SV_holds) _) (eX16_holds F d (v_holds F d) ih hx hf) (by decide)
    replace hf := ifn e_ hf
    cases hf
abbrev S_X2_component : SS := ([202, 203, 213, 1001], [], [1100, 1101], [1000], [])
set_option maxHeartbeats 4000000 in
theorem eX2_component_116 (F d : Nat) (x1 : Nat) (x2 : Nat) (h : Hp) (hx : FXs h) {r : Int32 × Hp} (hf : fX2_component_116 F d x1 x2 h = some r) : FXs r.2 ∧ EF S_X2_component h r.2 := by
  unfold fX2_component_116 at hf
  replace hf := cvE hf
  obtain ⟨h1, e_h1, hf⟩ := hf
  have q_h1 := EFc (EF.rf (S := S_X2_component) _) (eX10_put F d hx e_h1) (by decide)
  have hx_h1 := q_h1.1
  have ef_h1 := q_h1.2
  cases hf
  exact ⟨hx_h1, ef_h1⟩
set_option maxHeartbeats 4000000 in
theorem eX2_component_58 (F d : Nat) (this : Nat) (x1 : Nat) (x2 : Nat) (h : Hp) (hx : FXs h) {r : Int32 × Hp} (hf : fX2_component_58 F d this x1 x2 h = some r) : FXs r.2 ∧ EF S_X2_component h r.2 := by
  unfold fX2_component_58 at hf
  replace hf := nnE hf
  obtain ⟨a2, e_a2, hf⟩ := hf
  have sa_a2 := hx 1100 _ _ e_a2
  replace hf := ckE hf
  obtain ⟨c3, hf⟩ := hf
  by_cases c4 : (gA h a2 (Int32.toNatClampNeg (gI h 1001 x1))) = 2
  · replace hf := ifp c4 hf
    replace hf := caE hf
    obtain ⟨v6, h5, e_h5, hf⟩ := hf
    have q_h5 := EFc (EF.rf (S := S_X2_component) _) (eX2_number F d hx e_h5) (by decide)
    have hx_h5 := q_h5.1
    have ef_h5 := q_h5.2
    by_cases c7 : v6 = 0
    · replace hf := ifp c7 hf
      cases hf
      exact ⟨hx_h5, ef_h5⟩
    · replace hf := ifn c7 hf
      replace hf := caE hf
      obtain ⟨v9, h8, e_h8, hf⟩ := hf
      have q_h8 := EFc ef_h5 (ev_holds F d hx_h5 e_h8) (by decide)
      have hx_h8 := q_h8.1
      have ef_h8 := q_h8.2
      by_cases c10 : v9 = 0
      · replace hf := ifp c10 hf
        replace hf := caE hf
        obtain ⟨v16, h15, e_h15, hf⟩ := hf
        have q_h15 := EFc ef_h8 (eX2_wrong F d hx_h8 e_h15) (by decide)
        have hx_h15 := q_h15.1
        have ef_h15 := q_h15.2
        replace hf := ckE hf
        obtain ⟨c17, hf⟩ := hf
        cases hf
        exact ⟨hx_h15, ef_h15⟩
      · replace hf := ifn c10 hf
        replace hf := nnE hf
        obtain ⟨a12, e_a12, hf⟩ := hf
        have sa_a12 := hx_h8 1101 _ _ e_a12
        replace hf := ckE hf
        obtain ⟨c13, hf⟩ := hf
        replace hf := bnE hf
        obtain ⟨h14, e_h14, hf⟩ := hf
        have hx_h14 := FX_sA hx_h8 e_h14
        have ef_h14 := EF_sA ef_h8 e_h14 (f := 1101) (by decide) sa_a12
        exact EFj ef_h14 (eX2_component_116 F d _ _ _ hx_h14 hf)
  · replace hf := ifn c4 hf
    exact EFj (EF.rf (S := S_X2_component) _) (eX2_component_116 F d _ _ _ hx hf)
set_option maxHeartbeats 4000000 in
theorem eX2_component_35 (F d : Nat) (this : Nat) (x1 : Nat) (x2 : Nat) (s0 : Nat) (s1 : Int32) (s2 : Int32) (h : Hp) (hx : FXs h) (sa_s0 : saF 1100 s0 = true) {r : Int32 × Hp} (hf : fX2_component_35 F d this x1 x2 s0 s1 s2 h = some r) : FXs r.2 ∧ EF S_X2_component h r.2 := by
  unfold fX2_component_35 at hf
  replace hf := ckE hf
  obtain ⟨c1, hf⟩ := hf
  replace hf := bnE hf
  obtain ⟨h2, e_h2, hf⟩ := hf
  have hx_h2 := FX_sA hx e_h2
  have ef_h2 := EF_sA (EF.rf (S := S_X2_component) _) e_h2 (f := 1100) (by decide) sa_s0
  replace hf := nnE hf
  obtain ⟨a4, e_a4, hf⟩ := hf
  have sa_a4 := hx_h2 1100 _ _ e_a4
  replace hf := ckE hf
  obtain ⟨c5, hf⟩ := hf
  by_cases c6 : (gA h2 a4 (Int32.toNatClampNeg (gI h2 1001 x1))) = 0
  · replace hf := ifp c6 hf
    exact EFj ef_h2 (eX2_component_58 F d _ _ _ _ hx_h2 hf)
  · replace hf := ifn c6 hf
    replace hf := bnE hf
    obtain ⟨h7, e_h7, hf⟩ := hf
    have hx_h7 := FX_sI hx_h2 e_h7
    have ef_h7 := EF_sI ef_h2 e_h7 (by decide)
    exact EFj ef_h7 (eX2_component_58 F d _ _ _ _ hx_h7 hf)
set_option maxHeartbeats 4000000 in
theorem eX2_component (F d : Nat) {this : Nat} {p0 : Nat} {p1 : Nat} {h : Hp} (hx : FXs h) {r : Int32 × Hp} (hf : fX2_component F d this p0 p1 h = some r) : FXs r.2 ∧ EF S_X2_component h r.2 := by
  unfold fX2_component at hf
  replace hf := nnE hf
  obtain ⟨a2, e_a2, hf⟩ := hf
  have sa_a2 := hx 1100 _ _ e_a2
  replace hf := caE hf
  obtain ⟨v4, h3, e_h3, hf⟩ := hf
  have q_h3 := EFc (EF.rf (S := S_X2_component) _) (eX2_look F d hx e_h3) (by decide)
  have hx_h3 := q_h3.1
  have ef_h3 := q_h3.2
  by_cases c5 : v4 = 63
  · replace hf := ifp c5 hf
    exact EFj ef_h3 (eX2_component_35 F d _ _ _ _ _ _ _ hx_h3 sa_a2 hf)
  · replace hf := ifn c5 hf
    replace hf := caE hf
    obtain ⟨v7, h6, e_h6, hf⟩ := hf
    have q_h6 := EFc ef_h3 (eX2_look F d hx_h3 e_h6) (by decide)
    have hx_h6 := q_h6.1
    have ef_h6 := q_h6.2
    by_cases c8 : v7 = 61
    · replace hf := ifp c8 hf
      exact EFj ef_h6 (eX2_component_35 F d _ _ _ _ _ _ _ hx_h6 sa_a2 hf)
    · replace hf := ifn c8 hf
      exact EFj ef_h6 (eX2_component_35 F d _ _ _ _ _ _ _ hx_h6 sa_a2 hf)
abbrev S_X11_init : SS := ([], [1000, 1100, 1101], [], [], [20, 24])
set_option maxHeartbeats 4000000 in
theorem eX11_init (F d : Nat) {this : Nat} {h : Hp} (hx : FXs h) {r : Hp} (hf : fX11_init F d this h = some r) : FXs r ∧ EF S_X11_init h r := by
  unfold fX11_init at hf
  replace hf := cvE hf
  obtain ⟨h1, e_h1, hf⟩ := hf
  have q_h1 := EFc (EF.rf (S := S_X11_init) _) (eX10_init F d hx e_h1) (by decide)
  have hx_h1 := q_h1.1
  have ef_h1 := q_h1.2
  replace hf := bnE hf
  obtain ⟨n5, e_n5, hf⟩ := hf
  replace hf := ckE hf
  obtain ⟨c3, hf⟩ := hf
  replace hf := bnE hf
  obtain ⟨h4, e_h4, hf⟩ := hf
  have hx_h4 := FX_nw hx_h1 e_h4
  have ef_h4 := EF_nw ef_h1 e_h4 (freAE c3).1 (by rw [(freAE c3).2.1]; decide) (by rw [(freAE c3).2.1]; decide) (by decide) (by rw [(freAE c3).2.1]; decide)
  replace hf := bnE hf
  obtain ⟨h6, e_h6, hf⟩ := hf
  have hx_h6 := FX_sP hx_h4 e_h6 (fun b e => by cases e; exact sa_k1100 (freAE c3).2.1 (freAE c3).2.2)
  have ef_h6 := EF_sP ef_h4 e_h6 (by decide)
  replace hf := bnE hf
  obtain ⟨n9, e_n9, hf⟩ := hf
  replace hf := ckE hf
  obtain ⟨c7, hf⟩ := hf
  replace hf := bnE hf
  obtain ⟨h8, e_h8, hf⟩ := hf
  have hx_h8 := FX_nw hx_h6 e_h8
  have ef_h8 := EF_nw ef_h6 e_h8 (freAE c7).1 (by rw [(freAE c7).2.1]; decide) (by rw [(freAE c7).2.1]; decide) (by decide) (by rw [(freAE c7).2.1]; decide)
  replace hf := bnE hf
  obtain ⟨h10, e_h10, hf⟩ := hf
  have hx_h10 := FX_sP hx_h8 e_h10 (fun b e => by cases e; exact sa_k1101 (freAE c7).2.1 (freAE c7).2.2)
  have ef_h10 := EF_sP ef_h8 e_h10 (by decide)
  cases hf
  exact ⟨hx_h10, ef_h10⟩
abbrev S_X11_isDistinct : SS := ([], [], [], [], [])
set_option maxHeartbeats 4000000 in
theorem eX11_isDistinct_57 (F d : Nat) (k_2 : Nat → Int32 → Hp → Option (Int32 × Hp)) (hk_2 : ∀ (this : Nat) (x1 : Int32) (h : Hp) (hx : FXs h) {r : Int32 × Hp}, k_2 this x1 h = some r → FXs r.2 ∧ EF S_X11_isDistinct h r.2) (this : Nat) (x1 : Int32) (h : Hp) (hx : FXs h) {r : Int32 × Hp} (hf : fX11_isDistinct_57 F d k_2 this x1 h = some r) : FXs r.2 ∧ EF S_X11_isDistinct h r.2 := by
  unfold fX11_isDistinct_57 at hf
  replace hf := bnE hf
  obtain ⟨v1, e_v1, hf⟩ := hf
  exact EFj (EF.rf (S := S_X11_isDistinct) _) (hk_2 _ _ _ hx hf)
set_option maxHeartbeats 4000000 in
theorem eX11_isDistinct_14 (F d : Nat) (k_2 : Nat → Int32 → Hp → Option (Int32 × Hp)) (hk_2 : ∀ (this : Nat) (x1 : Int32) (h : Hp) (hx : FXs h) {r : Int32 × Hp}, k_2 this x1 h = some r → FXs r.2 ∧ EF S_X11_isDistinct h r.2) : ∀ (n : Nat) (this : Nat) (x1 : Int32) (x2 : Int32) (h : Hp) (hx : FXs h) {r : Int32 × Hp}, fX11_isDistinct_14 F d k_2 n this x1 x2 h = some r → FXs r.2 ∧ EF S_X11_isDistinct h r.2 := by
  intro n
  induction n with
  | zero => intro _ _ _ _ _ r hf; cases hf
  | succ n ih =>
    intro this x1 x2 h hx r hf
    unfold fX11_isDistinct_14 at hf
    by_cases c1 : x2 < 0
    · replace hf := ifp c1 hf
      exact EFj (EF.rf (S := S_X11_isDistinct) _) (eX11_isDistinct_57 F d k_2 hk_2 _ _ _ hx hf)
    · replace hf := ifn c1 hf
      replace hf := nnE hf
      obtain ⟨a3, e_a3, hf⟩ := hf
      have sa_a3 := hx 1100 _ _ e_a3
      replace hf := ckE hf
      obtain ⟨c4, hf⟩ := hf
      by_cases c5 : (gA h a3 (Int32.toNatClampNeg x2)) = 0
      · replace hf := ifp c5 hf
        exact EFj (EF.rf (S := S_X11_isDistinct) _) (eX11_isDistinct_57 F d k_2 hk_2 _ _ _ hx hf)
      · replace hf := ifn c5 hf
        replace hf := nnE hf
        obtain ⟨a7, e_a7, hf⟩ := hf
        have sa_a7 := hx 1000 _ _ e_a7
        replace hf := ckE hf
        obtain ⟨c8, hf⟩ := hf
        replace hf := bnE hf
        obtain ⟨o10, e_o10, hf⟩ := hf
        replace hf := nnE hf
        obtain ⟨a11, e_a11, hf⟩ := hf
        subst e_a11
        replace hf := caE hf
        obtain ⟨v13, h12, e_h12, hf⟩ := hf
        have q_h12 := EFc (EF.rf (S := S_X11_isDistinct) _) (ev_tags F d hx e_h12) (by decide)
        have hx_h12 := q_h12.1
        have ef_h12 := q_h12.2
        replace hf := nnE hf
        obtain ⟨a15, e_a15, hf⟩ := hf
        have sa_a15 := hx_h12 1000 _ _ e_a15
        replace hf := ckE hf
        obtain ⟨c16, hf⟩ := hf
        replace hf := bnE hf
        obtain ⟨o18, e_o18, hf⟩ := hf
        replace hf := nnE hf
        obtain ⟨a19, e_a19, hf⟩ := hf
        subst e_a19
        replace hf := caE hf
        obtain ⟨v21, h20, e_h20, hf⟩ := hf
        have q_h20 := EFc ef_h12 (ev_tags F d hx_h12 e_h20) (by decide)
        have hx_h20 := q_h20.1
        have ef_h20 := q_h20.2
        by_cases c22 : (v13 &&& v21) = 0
        · replace hf := ifp c22 hf
          replace hf := bnE hf
          obtain ⟨v23, e_v23, hf⟩ := hf
          exact EFj ef_h20 (ih _ _ _ _ hx_h20 hf)
        · replace hf := ifn c22 hf
          cases hf
          exact ⟨hx_h20, ef_h20⟩
set_option maxHeartbeats 4000000 in
theorem eX11_isDistinct_2 (F d : Nat) : ∀ (n : Nat) (this : Nat) (x1 : Int32) (h : Hp) (hx : FXs h) {r : Int32 × Hp}, fX11_isDistinct_2 F d n this x1 h = some r → FXs r.2 ∧ EF S_X11_isDistinct h r.2 := by
  intro n
  induction n with
  | zero => intro _ _ _ _ r hf; cases hf
  | succ n ih =>
    intro this x1 h hx r hf
    unfold fX11_isDistinct_2 at hf
    by_cases c1 : (gI h 1001 this) ≤ x1
    · replace hf := ifp c1 hf
      cases hf
      exact ⟨hx, (EF.rf (S := S_X11_isDistinct) _)⟩
    · replace hf := ifn c1 hf
      replace hf := bnE hf
      obtain ⟨v2, e_v2, hf⟩ := hf
      exact EFj (EF.rf (S := S_X11_isDistinct) _) (eX11_isDistinct_14 F d (fX11_isDistinct_2 F d n) ih F _ _ _ _ hx hf)
set_option maxHeartbeats 4000000 in
theorem eX11_isDistinct (F d : Nat) {this : Nat} {h : Hp} (hx : FXs h) {r : Int32 × Hp} (hf : fX11_isDistinct F d this h = some r) : FXs r.2 ∧ EF S_X11_isDistinct h r.2 := by
  unfold fX11_isDistinct at hf
  exact EFj (EF.rf (S := S_X11_isDistinct) _) (eX11_isDistinct_2 F d F _ _ _ hx hf)
abbrev S_X2_sequenceOf : SS := ([202, 203, 212, 213, 214, 800, 900, 901, 902, 903, 1001, 1400, 1401, 1402, 1600, 1601], [1000, 1100, 1101, 1300, 1500, 1501, 1602], [211, 1100, 1101], [205, 206, 207, 208, 209, 210, 1000], [6, 7, 8, 9, 10, 11, 12, 20, 24])
set_option maxHeartbeats 4000000 in
theorem eX2_sequenceOf_115 (F d : Nat) (R_typeOf : Nat → Int32 → Hp → Option (Option Nat × Hp)) (hE_typeOf : ∀ {p0 : Nat} {p1 : Int32} {h : Hp} (_ : FXs h) {r : Option Nat × Hp}, R_typeOf p0 p1 h = some r → FXs r.2 ∧ EF SV_typeOf h r.2) (k_61 : Nat → Int32 → Nat → Int32 → Hp → Option (Option Nat × Hp)) (hk_61 : ∀ (x0 : Nat) (x2 : Int32) (x3 : Nat) (x4 : Int32) (h : Hp) (hx : FXs h) {r : Option Nat × Hp}, k_61 x0 x2 x3 x4 h = some r → FXs r.2 ∧ EF S_X2_sequenceOf h r.2) (x0 : Nat) (x2 : Int32) (x3 : Nat) (x4 : Int32) (h : Hp) (hx : FXs h) {r : Option Nat × Hp} (hf : fX2_sequenceOf_115 F d R_typeOf k_61 x0 x2 x3 x4 h = some r) : FXs r.2 ∧ EF S_X2_sequenceOf h r.2 := by
  unfold fX2_sequenceOf_115 at hf
  exact EFj (EF.rf (S := S_X2_sequenceOf) _) (hk_61 _ _ _ _ _ hx hf)
set_option maxHeartbeats 4000000 in
theorem eX2_sequenceOf_61 (F d : Nat) (R_typeOf : Nat → Int32 → Hp → Option (Option Nat × Hp)) (hE_typeOf : ∀ {p0 : Nat} {p1 : Int32} {h : Hp} (_ : FXs h) {r : Option Nat × Hp}, R_typeOf p0 p1 h = some r → FXs r.2 ∧ EF SV_typeOf h r.2) : ∀ (n : Nat) (x0 : Nat) (x2 : Int32) (x3 : Nat) (x4 : Int32) (h : Hp) (hx : FXs h) {r : Option Nat × Hp}, fX2_sequenceOf_61 F d R_typeOf n x0 x2 x3 x4 h = some r → FXs r.2 ∧ EF S_X2_sequenceOf h r.2 := by
  intro n
  induction n with
  | zero => intro _ _ _ _ _ _ r hf; cases hf
  | succ n ih =>
    intro x0 x2 x3 x4 h hx r hf
    unfold fX2_sequenceOf_61 at hf
    by_cases c1 : x4 = 0
    · replace hf := ifp c1 hf
      by_cases c2 : 0 < (gI h 203 x0)
      · replace hf := ifp c2 hf
        cases hf
        exact ⟨hx, (EF.rf (S := S_X2_sequenceOf) _)⟩
      · replace hf := ifn c2 hf
        replace hf := caE hf
        obtain ⟨v4, h3, e_h3, hf⟩ := hf
        have q_h3 := EFc (EF.rf (S := S_X2_sequenceOf) _) (eX2_expect F d hx e_h3) (by decide)
        have hx_h3 := q_h3.1
        have ef_h3 := q_h3.2
        by_cases c5 : v4 = 0
        · replace hf := ifp c5 hf
          cases hf
          exact ⟨hx_h3, ef_h3⟩
        · replace hf := ifn c5 hf
          replace hf := caE hf
          obtain ⟨v7, h6, e_h6, hf⟩ := hf
          have q_h6 := EFc ef_h3 (eX11_isDistinct F d hx_h3 e_h6) (by decide)
          have hx_h6 := q_h6.1
          have ef_h6 := q_h6.2
          by_cases c8 : v7 = 0
          · replace hf := ifp c8 hf
            replace hf := caE hf
            obtain ⟨v10, h9, e_h9, hf⟩ := hf
            have q_h9 := EFc ef_h6 (eX2_noType F d hx_h6 e_h9) (by decide)
            have hx_h9 := q_h9.1
            have ef_h9 := q_h9.2
            cases hf
            exact ⟨hx_h9, ef_h9⟩
          · replace hf := ifn c8 hf
            cases hf
            exact ⟨hx_h6, ef_h6⟩
    · replace hf := ifn c1 hf
      replace hf := caE hf
      obtain ⟨v13, h12, e_h12, hf⟩ := hf
      have q_h12 := EFc (EF.rf (S := S_X2_sequenceOf) _) (hE_typeOf hx e_h12) (by decide)
      have hx_h12 := q_h12.1
      have ef_h12 := q_h12.2
      rcases nd_on v13 with e_a15 | ⟨a15, e_a15⟩
      · replace hf := ocN e_a15 hf
        subst e_a15
        cases hf
        exact ⟨hx_h12, ef_h12⟩
      · replace hf := ocS e_a15 hf
        subst e_a15
        replace hf := caE hf
        obtain ⟨v17, h16, e_h16, hf⟩ := hf
        have q_h16 := EFc ef_h12 (eX2_component F d hx_h12 e_h16) (by decide)
        have hx_h16 := q_h16.1
        have ef_h16 := q_h16.2
        by_cases c18 : v17 = 0
        · replace hf := ifp c18 hf
          cases hf
          exact ⟨hx_h16, ef_h16⟩
        · replace hf := ifn c18 hf
          replace hf := caE hf
          obtain ⟨v20, h19, e_h19, hf⟩ := hf
          have q_h19 := EFc ef_h16 (eX2_another F d hx_h16 e_h19) (by decide)
          have hx_h19 := q_h19.1
          have ef_h19 := q_h19.2
          by_cases c21 : v20 = 0
          · replace hf := ifp c21 hf
            exact EFj ef_h19 (eX2_sequenceOf_115 F d R_typeOf hE_typeOf (fX2_sequenceOf_61 F d R_typeOf n) ih _ _ _ _ _ hx_h19 hf)
          · replace hf := ifn c21 hf
            replace hf := bnE hf
            obtain ⟨h22, e_h22, hf⟩ := hf
            have hx_h22 := FX_sI hx_h19 e_h22
            have ef_h22 := EF_sI ef_h19 e_h22 (by decide)
            exact EFj ef_h22 (eX2_sequenceOf_115 F d R_typeOf hE_typeOf (fX2_sequenceOf_61 F d R_typeOf n) ih _ _ _ _ _ hx_h22 hf)
set_option maxHeartbeats 4000000 in
theorem eX2_sequenceOf_59 (F d : Nat) (R_typeOf : Nat → Int32 → Hp → Option (Option Nat × Hp)) (hE_typeOf : ∀ {p0 : Nat} {p1 : Int32} {h : Hp} (_ : FXs h) {r : Option Nat × Hp}, R_typeOf p0 p1 h = some r → FXs r.2 ∧ EF SV_typeOf h r.2) (x0 : Nat) (x2 : Int32) (x3 : Nat) (s0 : Int32) (h : Hp) (hx : FXs h) {r : Option Nat × Hp} (hf : fX2_sequenceOf_59 F d R_typeOf x0 x2 x3 s0 h = some r) : FXs r.2 ∧ EF S_X2_sequenceOf h r.2 := by
  unfold fX2_sequenceOf_59 at hf
  exact EFj (EF.rf (S := S_X2_sequenceOf) _) (eX2_sequenceOf_61 F d R_typeOf hE_typeOf F _ _ _ _ _ hx hf)
set_option maxHeartbeats 4000000 in
theorem eX2_sequenceOf_22 (F d : Nat) (R_typeOf : Nat → Int32 → Hp → Option (Option Nat × Hp)) (hE_typeOf : ∀ {p0 : Nat} {p1 : Int32} {h : Hp} (_ : FXs h) {r : Option Nat × Hp}, R_typeOf p0 p1 h = some r → FXs r.2 ∧ EF SV_typeOf h r.2) (x0 : Nat) (x1 : Int32) (x2 : Int32) (h : Hp) (hx : FXs h) {r : Option Nat × Hp} (hf : fX2_sequenceOf_22 F d R_typeOf x0 x1 x2 h = some r) : FXs r.2 ∧ EF S_X2_sequenceOf h r.2 := by
  unfold fX2_sequenceOf_22 at hf
  replace hf := nnE hf
  obtain ⟨a2, e_a2, hf⟩ := hf
  have sa_a2 := hx 207 _ _ e_a2
  replace hf := ckE hf
  obtain ⟨c3, hf⟩ := hf
  replace hf := bnE hf
  obtain ⟨o5, e_o5, hf⟩ := hf
  replace hf := nnE hf
  obtain ⟨a6, e_a6, hf⟩ := hf
  subst e_a6
  replace hf := bnE hf
  obtain ⟨h7, e_h7, hf⟩ := hf
  have hx_h7 := FX_sI hx e_h7
  have ef_h7 := EF_sI (EF.rf (S := S_X2_sequenceOf) _) e_h7 (by decide)
  replace hf := caE hf
  obtain ⟨v9, h8, e_h8, hf⟩ := hf
  have q_h8 := EFc ef_h7 (eX2_expect F d hx_h7 e_h8) (by decide)
  have hx_h8 := q_h8.1
  have ef_h8 := q_h8.2
  by_cases c10 : v9 = 0
  · replace hf := ifp c10 hf
    cases hf
    exact ⟨hx_h8, ef_h8⟩
  · replace hf := ifn c10 hf
    replace hf := caE hf
    obtain ⟨v12, h11, e_h11, hf⟩ := hf
    have q_h11 := EFc ef_h8 (eX2_look F d hx_h8 e_h11) (by decide)
    have hx_h11 := q_h11.1
    have ef_h11 := q_h11.2
    by_cases c13 : v12 = 125
    · replace hf := ifp c13 hf
      exact EFj ef_h11 (eX2_sequenceOf_59 F d R_typeOf hE_typeOf _ _ _ _ _ hx_h11 hf)
    · replace hf := ifn c13 hf
      exact EFj ef_h11 (eX2_sequenceOf_59 F d R_typeOf hE_typeOf _ _ _ _ _ hx_h11 hf)
set_option maxHeartbeats 4000000 in
theorem eX2_sequenceOf (F d : Nat) (R_typeOf : Nat → Int32 → Hp → Option (Option Nat × Hp)) (hE_typeOf : ∀ {p0 : Nat} {p1 : Int32} {h : Hp} (_ : FXs h) {r : Option Nat × Hp}, R_typeOf p0 p1 h = some r → FXs r.2 ∧ EF SV_typeOf h r.2) {p0 : Nat} {p1 : Int32} {p2 : Int32} {h : Hp} (hx : FXs h) {r : Option Nat × Hp} (hf : fX2_sequenceOf F d R_typeOf p0 p1 p2 h = some r) : FXs r.2 ∧ EF S_X2_sequenceOf h r.2 := by
  unfold fX2_sequenceOf at hf
  replace hf := nnE hf
  obtain ⟨a2, e_a2, hf⟩ := hf
  have sa_a2 := hx 207 _ _ e_a2
  replace hf := ckE hf
  obtain ⟨c3, hf⟩ := hf
  replace hf := bnE hf
  obtain ⟨o5, e_o5, hf⟩ := hf
  rcases nd_on o5 with e_a6 | ⟨a6, e_a6⟩
  · replace hf := ocN e_a6 hf
    subst e_a6
    replace hf := nnE hf
    obtain ⟨a8, e_a8, hf⟩ := hf
    have sa_a8 := hx 207 _ _ e_a8
    replace hf := bnE hf
    obtain ⟨n11, e_n11, hf⟩ := hf
    replace hf := ckE hf
    obtain ⟨c9, hf⟩ := hf
    replace hf := bnE hf
    obtain ⟨h10, e_h10, hf⟩ := hf
    have hx_h10 := FX_nw hx e_h10
    have ef_h10 := EF_nw (EF.rf (S := S_X2_sequenceOf) _) e_h10 (freE c9).1 (by rw [(freE c9).2]; decide) (by rw [(freE c9).2]; decide) (by decide) (by rw [(freE c9).2]; decide)
    replace hf := cvE hf
    obtain ⟨h12, e_h12, hf⟩ := hf
    have q_h12 := EFc ef_h10 (eX11_init F d hx_h10 e_h12) (by decide)
    have hx_h12 := q_h12.1
    have ef_h12 := q_h12.2
    replace hf := ckE hf
    obtain ⟨c14, hf⟩ := hf
    replace hf := bnE hf
    obtain ⟨h15, e_h15, hf⟩ := hf
    have hx_h15 := FX_sR hx_h12 e_h15
    have ef_h15 := EF_sR ef_h12 e_h15 (f := 207) (by decide) sa_a8
    exact EFj ef_h15 (eX2_sequenceOf_22 F d R_typeOf hE_typeOf _ _ _ _ hx_h15 hf)
  · replace hf := ocS e_a6 hf
    subst e_a6
    exact EFj (EF.rf (S := S_X2_sequenceOf) _) (eX2_sequenceOf_22 F d R_typeOf hE_typeOf _ _ _ _ hx hf)
abbrev S_X15_init : SS := ([], [1500], [], [], [10])
set_option maxHeartbeats 4000000 in
theorem eX15_init (F d : Nat) {this : Nat} {h : Hp} (hx : FXs h) {r : Hp} (hf : fX15_init F d this h = some r) : FXs r ∧ EF S_X15_init h r := by
  unfold fX15_init at hf
  replace hf := cvE hf
  obtain ⟨h1, e_h1, hf⟩ := hf
  have q_h1 := EFc (EF.rf (S := S_X15_init) _) (eX7_init F d hx e_h1) (by decide)
  have hx_h1 := q_h1.1
  have ef_h1 := q_h1.2
  replace hf := bnE hf
  obtain ⟨n5, e_n5, hf⟩ := hf
  replace hf := ckE hf
  obtain ⟨c3, hf⟩ := hf
  replace hf := bnE hf
  obtain ⟨h4, e_h4, hf⟩ := hf
  have hx_h4 := FX_nw hx_h1 e_h4
  have ef_h4 := EF_nw ef_h1 e_h4 (freE c3).1 (by rw [(freE c3).2]; decide) (by rw [(freE c3).2]; decide) (by decide) (by rw [(freE c3).2]; decide)
  replace hf := cvE hf
  obtain ⟨h6, e_h6, hf⟩ := hf
  have q_h6 := EFc ef_h4 (eX14_init F d hx_h4 e_h6) (by decide)
  have hx_h6 := q_h6.1
  have ef_h6 := q_h6.2
  replace hf := bnE hf
  obtain ⟨h8, e_h8, hf⟩ := hf
  have hx_h8 := FX_sP hx_h6 e_h8 (fun b e => rfl)
  have ef_h8 := EF_sP ef_h6 e_h8 (by decide)
  cases hf
  exact ⟨hx_h8, ef_h8⟩
abbrev S_X2_seriesOf : SS := ([202, 203, 212, 213, 214, 800, 900, 901, 902, 903, 1001, 1400, 1401, 1402, 1600, 1601], [1000, 1100, 1101, 1300, 1500, 1501, 1602], [211, 1100, 1101], [205, 206, 207, 208, 209, 210, 1000], [6, 7, 8, 9, 10, 11, 12, 20, 24])
set_option maxHeartbeats 4000000 in
theorem eX2_seriesOf_50 (F d : Nat) (R_typeOf : Nat → Int32 → Hp → Option (Option Nat × Hp)) (hE_typeOf : ∀ {p0 : Nat} {p1 : Int32} {h : Hp} (_ : FXs h) {r : Option Nat × Hp}, R_typeOf p0 p1 h = some r → FXs r.2 ∧ EF SV_typeOf h r.2) (x3 : Nat) (s0 : Nat) (s1 : Option Nat) (h : Hp) (hx : FXs h) {r : Option Nat × Hp} (hf : fX2_seriesOf_50 F d R_typeOf x3 s0 s1 h = some r) : FXs r.2 ∧ EF S_X2_seriesOf h r.2 := by
  unfold fX2_seriesOf_50 at hf
  replace hf := bnE hf
  obtain ⟨h1, e_h1, hf⟩ := hf
  have hx_h1 := FX_sP hx e_h1 (fun b e => rfl)
  have ef_h1 := EF_sP (EF.rf (S := S_X2_seriesOf) _) e_h1 (by decide)
  replace hf := bnE hf
  obtain ⟨o3, e_o3, hf⟩ := hf
  rcases nd_on o3 with e_a4 | ⟨a4, e_a4⟩
  · replace hf := ocN e_a4 hf
    subst e_a4
    cases hf
    exact ⟨hx_h1, ef_h1⟩
  · replace hf := ocS e_a4 hf
    subst e_a4
    cases hf
    exact ⟨hx_h1, ef_h1⟩
set_option maxHeartbeats 4000000 in
theorem eX2_seriesOf_22 (F d : Nat) (R_typeOf : Nat → Int32 → Hp → Option (Option Nat × Hp)) (hE_typeOf : ∀ {p0 : Nat} {p1 : Int32} {h : Hp} (_ : FXs h) {r : Option Nat × Hp}, R_typeOf p0 p1 h = some r → FXs r.2 ∧ EF SV_typeOf h r.2) (x0 : Nat) (x1 : Int32) (x2 : Int32) (h : Hp) (hx : FXs h) {r : Option Nat × Hp} (hf : fX2_seriesOf_22 F d R_typeOf x0 x1 x2 h = some r) : FXs r.2 ∧ EF S_X2_seriesOf h r.2 := by
  unfold fX2_seriesOf_22 at hf
  replace hf := nnE hf
  obtain ⟨a2, e_a2, hf⟩ := hf
  have sa_a2 := hx 208 _ _ e_a2
  replace hf := ckE hf
  obtain ⟨c3, hf⟩ := hf
  replace hf := bnE hf
  obtain ⟨o5, e_o5, hf⟩ := hf
  replace hf := nnE hf
  obtain ⟨a6, e_a6, hf⟩ := hf
  subst e_a6
  replace hf := nnE hf
  obtain ⟨a8, e_a8, hf⟩ := hf
  replace hf := caE hf
  obtain ⟨v10, h9, e_h9, hf⟩ := hf
  have q_h9 := EFc (EF.rf (S := S_X2_seriesOf) _) (eX2_bounded F d hx e_h9) (by decide)
  have hx_h9 := q_h9.1
  have ef_h9 := q_h9.2
  by_cases c11 : v10 = 0
  · replace hf := ifp c11 hf
    exact EFj ef_h9 (eX2_seriesOf_50 F d R_typeOf hE_typeOf _ _ _ _ hx_h9 hf)
  · replace hf := ifn c11 hf
    replace hf := caE hf
    obtain ⟨v13, h12, e_h12, hf⟩ := hf
    have q_h12 := EFc ef_h9 (hE_typeOf hx_h9 e_h12) (by decide)
    have hx_h12 := q_h12.1
    have ef_h12 := q_h12.2
    exact EFj ef_h12 (eX2_seriesOf_50 F d R_typeOf hE_typeOf _ _ _ _ hx_h12 hf)
set_option maxHeartbeats 4000000 in
theorem eX2_seriesOf (F d : Nat) (R_typeOf : Nat → Int32 → Hp → Option (Option Nat × Hp)) (hE_typeOf : ∀ {p0 : Nat} {p1 : Int32} {h : Hp} (_ : FXs h) {r : Option Nat × Hp}, R_typeOf p0 p1 h = some r → FXs r.2 ∧ EF SV_typeOf h r.2) {p0 : Nat} {p1 : Int32} {p2 : Int32} {h : Hp} (hx : FXs h) {r : Option Nat × Hp} (hf : fX2_seriesOf F d R_typeOf p0 p1 p2 h = some r) : FXs r.2 ∧ EF S_X2_seriesOf h r.2 := by
  unfold fX2_seriesOf at hf
  replace hf := nnE hf
  obtain ⟨a2, e_a2, hf⟩ := hf
  have sa_a2 := hx 208 _ _ e_a2
  replace hf := ckE hf
  obtain ⟨c3, hf⟩ := hf
  replace hf := bnE hf
  obtain ⟨o5, e_o5, hf⟩ := hf
  rcases nd_on o5 with e_a6 | ⟨a6, e_a6⟩
  · replace hf := ocN e_a6 hf
    subst e_a6
    replace hf := nnE hf
    obtain ⟨a8, e_a8, hf⟩ := hf
    have sa_a8 := hx 208 _ _ e_a8
    replace hf := bnE hf
    obtain ⟨n11, e_n11, hf⟩ := hf
    replace hf := ckE hf
    obtain ⟨c9, hf⟩ := hf
    replace hf := bnE hf
    obtain ⟨h10, e_h10, hf⟩ := hf
    have hx_h10 := FX_nw hx e_h10
    have ef_h10 := EF_nw (EF.rf (S := S_X2_seriesOf) _) e_h10 (freE c9).1 (by rw [(freE c9).2]; decide) (by rw [(freE c9).2]; decide) (by decide) (by rw [(freE c9).2]; decide)
    replace hf := cvE hf
    obtain ⟨h12, e_h12, hf⟩ := hf
    have q_h12 := EFc ef_h10 (eX15_init F d hx_h10 e_h12) (by decide)
    have hx_h12 := q_h12.1
    have ef_h12 := q_h12.2
    replace hf := ckE hf
    obtain ⟨c14, hf⟩ := hf
    replace hf := bnE hf
    obtain ⟨h15, e_h15, hf⟩ := hf
    have hx_h15 := FX_sR hx_h12 e_h15
    have ef_h15 := EF_sR ef_h12 e_h15 (f := 208) (by decide) sa_a8
    exact EFj ef_h15 (eX2_seriesOf_22 F d R_typeOf hE_typeOf _ _ _ _ hx_h15 hf)
  · replace hf := ocS e_a6 hf
    subst e_a6
    exact EFj (EF.rf (S := S_X2_seriesOf) _) (eX2_seriesOf_22 F d R_typeOf hE_typeOf _ _ _ _ hx hf)
abbrev S_X2_bodyOf : SS := ([202, 203, 212, 213, 214, 800, 900, 901, 902, 903, 1001, 1400, 1401, 1402, 1600, 1601], [1000, 1100, 1101, 1300, 1500, 1501, 1602], [211, 1100, 1101], [205, 206, 207, 208, 209, 210, 1000], [6, 7, 8, 9, 10, 11, 12, 20, 24])
set_option maxHeartbeats 4000000 in
theorem eX2_bodyOf (F d : Nat) (R_typeOf : Nat → Int32 → Hp → Option (Option Nat × Hp)) (hE_typeOf : ∀ {p0 : Nat} {p1 : Int32} {h : Hp} (_ : FXs h) {r : Option Nat × Hp}, R_typeOf p0 p1 h = some r → FXs r.2 ∧ EF SV_typeOf h r.2) {p0 : Nat} {p1 : Int32} {h : Hp} (hx : FXs h) {r : Option Nat × Hp} (hf : fX2_bodyOf F d R_typeOf p0 p1 h = some r) : FXs r.2 ∧ EF S_X2_bodyOf h r.2 := by
  unfold fX2_bodyOf at hf
  replace hf := caE hf
  obtain ⟨v2, h1, e_h1, hf⟩ := hf
  have q_h1 := EFc (EF.rf (S := S_X2_bodyOf) _) (eX2_isName F d hx e_h1) (by decide)
  have hx_h1 := q_h1.1
  have ef_h1 := q_h1.2
  by_cases c3 : v2 = 0
  · replace hf := ifp c3 hf
    replace hf := caE hf
    obtain ⟨v5, h4, e_h4, hf⟩ := hf
    have q_h4 := EFc ef_h1 (eX2_look F d hx_h1 e_h4) (by decide)
    have hx_h4 := q_h4.1
    have ef_h4 := q_h4.2
    replace hf := caE hf
    obtain ⟨v7, h6, e_h6, hf⟩ := hf
    have q_h6 := EFc ef_h4 (eX2_isLetter F d hx_h4 e_h6) (by decide)
    have hx_h6 := q_h6.1
    have ef_h6 := q_h6.2
    by_cases c8 : v7 = 0
    · replace hf := ifp c8 hf
      replace hf := caE hf
      obtain ⟨v51, h50, e_h50, hf⟩ := hf
      have q_h50 := EFc ef_h6 (eX2_noType F d hx_h6 e_h50) (by decide)
      have hx_h50 := q_h50.1
      have ef_h50 := q_h50.2
      cases hf
      exact ⟨hx_h50, ef_h50⟩
    · replace hf := ifn c8 hf
      by_cases c9 : p1 < 6
      · replace hf := ifp c9 hf
        replace hf := bnE hf
        obtain ⟨v10, e_v10, hf⟩ := hf
        replace hf := bnE hf
        obtain ⟨h11, e_h11, hf⟩ := hf
        have hx_h11 := FX_sI hx_h6 e_h11
        have ef_h11 := EF_sI ef_h6 e_h11 (by decide)
        by_cases c12 : v5 = 98
        · replace hf := ifp c12 hf
          replace hf := caE hf
          obtain ⟨v14, h13, e_h13, hf⟩ := hf
          have q_h13 := EFc ef_h11 (eX2_numeric F d hx_h11 e_h13) (by decide)
          have hx_h13 := q_h13.1
          have ef_h13 := q_h13.2
          replace hf := nnE hf
          obtain ⟨a16, e_a16, hf⟩ := hf
          subst e_a16
          replace hf := caE hf
          obtain ⟨v18, h17, e_h17, hf⟩ := hf
          have q_h17 := EFc ef_h13 (eX9_become F d hx_h13 e_h17) (by decide)
          have hx_h17 := q_h17.1
          have ef_h17 := q_h17.2
          cases hf
          exact ⟨hx_h17, ef_h17⟩
        replace hf := ifn c12 hf
        by_cases c20 : v5 = 99
        · replace hf := ifp c20 hf
          replace hf := caE hf
          obtain ⟨v22, h21, e_h21, hf⟩ := hf
          have q_h21 := EFc ef_h11 (eX2_choiceOf F d R_typeOf hE_typeOf hx_h11 e_h21) (by decide)
          have hx_h21 := q_h21.1
          have ef_h21 := q_h21.2
          cases hf
          exact ⟨hx_h21, ef_h21⟩
        replace hf := ifn c20 hf
        by_cases c24 : v5 = 105
        · replace hf := ifp c24 hf
          replace hf := caE hf
          obtain ⟨v26, h25, e_h25, hf⟩ := hf
          have q_h25 := EFc ef_h11 (eX2_integer F d hx_h11 e_h25) (by decide)
          have hx_h25 := q_h25.1
          have ef_h25 := q_h25.2
          cases hf
          exact ⟨hx_h25, ef_h25⟩
        replace hf := ifn c24 hf
        by_cases c28 : v5 = 110
        · replace hf := ifp c28 hf
          replace hf := caE hf
          obtain ⟨v30, h29, e_h29, hf⟩ := hf
          have q_h29 := EFc ef_h11 (eX2_numeric F d hx_h11 e_h29) (by decide)
          have hx_h29 := q_h29.1
          have ef_h29 := q_h29.2
          replace hf := nnE hf
          obtain ⟨a32, e_a32, hf⟩ := hf
          subst e_a32
          replace hf := caE hf
          obtain ⟨v34, h33, e_h33, hf⟩ := hf
          have q_h33 := EFc ef_h29 (eX9_become F d hx_h29 e_h33) (by decide)
          have hx_h33 := q_h33.1
          have ef_h33 := q_h33.2
          cases hf
          exact ⟨hx_h33, ef_h33⟩
        replace hf := ifn c28 hf
        by_cases c36 : v5 = 111
        · replace hf := ifp c36 hf
          replace hf := caE hf
          obtain ⟨v38, h37, e_h37, hf⟩ := hf
          have q_h37 := EFc ef_h11 (eX2_octetsAt F d hx_h11 e_h37) (by decide)
          have hx_h37 := q_h37.1
          have ef_h37 := q_h37.2
          cases hf
          exact ⟨hx_h37, ef_h37⟩
        replace hf := ifn c36 hf
        by_cases c40 : v5 = 113
        · replace hf := ifp c40 hf
          replace hf := caE hf
          obtain ⟨v42, h41, e_h41, hf⟩ := hf
          have q_h41 := EFc ef_h11 (eX2_sequenceOf F d R_typeOf hE_typeOf hx_h11 e_h41) (by decide)
          have hx_h41 := q_h41.1
          have ef_h41 := q_h41.2
          cases hf
          exact ⟨hx_h41, ef_h41⟩
        replace hf := ifn c40 hf
        replace hf := caE hf
        obtain ⟨v45, h44, e_h44, hf⟩ := hf
        have q_h44 := EFc ef_h11 (eX2_seriesOf F d R_typeOf hE_typeOf hx_h11 e_h44) (by decide)
        have hx_h44 := q_h44.1
        have ef_h44 := q_h44.2
        cases hf
        exact ⟨hx_h44, ef_h44⟩
      · replace hf := ifn c9 hf
        replace hf := caE hf
        obtain ⟨v48, h47, e_h47, hf⟩ := hf
        have q_h47 := EFc ef_h6 (eX2_noType F d hx_h6 e_h47) (by decide)
        have hx_h47 := q_h47.1
        have ef_h47 := q_h47.2
        cases hf
        exact ⟨hx_h47, ef_h47⟩
  · replace hf := ifn c3 hf
    replace hf := caE hf
    obtain ⟨v54, h53, e_h53, hf⟩ := hf
    have q_h53 := EFc ef_h1 (eX2_named F d hx_h1 e_h53) (by decide)
    have hx_h53 := q_h53.1
    have ef_h53 := q_h53.2
    cases hf
    exact ⟨hx_h53, ef_h53⟩
abbrev S_X2_isTag : SS := ([202, 203, 212], [], [211], [], [])
set_option maxHeartbeats 4000000 in
theorem eX2_isTag_82 (F d : Nat) (this : Nat) (h : Hp) (hx : FXs h) {r : Int32 × Hp} (hf : fX2_isTag_82 F d this h = some r) : FXs r.2 ∧ EF S_X2_isTag h r.2 := by
  unfold fX2_isTag_82 at hf
  replace hf := caE hf
  obtain ⟨v2, h1, e_h1, hf⟩ := hf
  have q_h1 := EFc (EF.rf (S := S_X2_isTag) _) (eX2_expect F d hx e_h1) (by decide)
  have hx_h1 := q_h1.1
  have ef_h1 := q_h1.2
  replace hf := ckE hf
  obtain ⟨c3, hf⟩ := hf
  cases hf
  exact ⟨hx_h1, ef_h1⟩
set_option maxHeartbeats 4000000 in
theorem eX2_isTag (F d : Nat) {this : Nat} {h : Hp} (hx : FXs h) {r : Int32 × Hp} (hf : fX2_isTag F d this h = some r) : FXs r.2 ∧ EF S_X2_isTag h r.2 := by
  unfold fX2_isTag at hf
  replace hf := nnE hf
  obtain ⟨a2, e_a2, hf⟩ := hf
  have sa_a2 := hx 211 _ _ e_a2
  replace hf := ckE hf
  obtain ⟨c3, hf⟩ := hf
  replace hf := bnE hf
  obtain ⟨h4, e_h4, hf⟩ := hf
  have hx_h4 := FX_sA hx e_h4
  have ef_h4 := EF_sA (EF.rf (S := S_X2_isTag) _) e_h4 (f := 211) (by decide) sa_a2
  replace hf := bnE hf
  obtain ⟨h5, e_h5, hf⟩ := hf
  have hx_h5 := FX_sI hx_h4 e_h5
  have ef_h5 := EF_sI ef_h4 e_h5 (by decide)
  replace hf := bnE hf
  obtain ⟨h6, e_h6, hf⟩ := hf
  have hx_h6 := FX_sI hx_h5 e_h6
  have ef_h6 := EF_sI ef_h5 e_h6 (by decide)
  replace hf := caE hf
  obtain ⟨v8, h7, e_h7, hf⟩ := hf
  have q_h7 := EFc ef_h6 (eX2_look F d hx_h6 e_h7) (by decide)
  have hx_h7 := q_h7.1
  have ef_h7 := q_h7.2
  replace hf := caE hf
  obtain ⟨v10, h9, e_h9, hf⟩ := hf
  have q_h9 := EFc ef_h7 (eX1_isDigit F d hx_h7 e_h9) (by decide)
  have hx_h9 := q_h9.1
  have ef_h9 := q_h9.2
  by_cases c11 : v10 = 0
  · replace hf := ifp c11 hf
    replace hf := caE hf
    obtain ⟨v18, h17, e_h17, hf⟩ := hf
    have q_h17 := EFc ef_h9 (eX2_wrong F d hx_h9 e_h17) (by decide)
    have hx_h17 := q_h17.1
    have ef_h17 := q_h17.2
    replace hf := ckE hf
    obtain ⟨c19, hf⟩ := hf
    cases hf
    exact ⟨hx_h17, ef_h17⟩
  · replace hf := ifn c11 hf
    replace hf := bnE hf
    obtain ⟨h12, e_h12, hf⟩ := hf
    have hx_h12 := FX_sI hx_h9 e_h12
    have ef_h12 := EF_sI ef_h9 e_h12 (by decide)
    replace hf := caE hf
    obtain ⟨v14, h13, e_h13, hf⟩ := hf
    have q_h13 := EFc ef_h12 (eX2_look F d hx_h12 e_h13) (by decide)
    have hx_h13 := q_h13.1
    have ef_h13 := q_h13.2
    by_cases c15 : v14 = 33
    · replace hf := ifp c15 hf
      replace hf := bnE hf
      obtain ⟨h16, e_h16, hf⟩ := hf
      have hx_h16 := FX_sI hx_h13 e_h16
      have ef_h16 := EF_sI ef_h13 e_h16 (by decide)
      exact EFj ef_h16 (eX2_isTag_82 F d _ _ hx_h16 hf)
    · replace hf := ifn c15 hf
      exact EFj ef_h13 (eX2_isTag_82 F d _ _ hx_h13 hf)
abbrev S_X16_init : SS := ([], [], [], [], [])
set_option maxHeartbeats 4000000 in
theorem eX16_init (F d : Nat) {this : Nat} {h : Hp} (hx : FXs h) {r : Hp} (hf : fX16_init F d this h = some r) : FXs r ∧ EF S_X16_init h r := by
  unfold fX16_init at hf
  replace hf := cvE hf
  obtain ⟨h1, e_h1, hf⟩ := hf
  have q_h1 := EFc (EF.rf (S := S_X16_init) _) (eX7_init F d hx e_h1) (by decide)
  have hx_h1 := q_h1.1
  have ef_h1 := q_h1.2
  cases hf
  exact ⟨hx_h1, ef_h1⟩
abbrev S_X7_isChoice : SS := ([], [], [], [], [])
set_option maxHeartbeats 4000000 in
theorem eX7_isChoice (F d : Nat) {this : Nat} {h : Hp} (hx : FXs h) {r : Int32 × Hp} (hf : fX7_isChoice F d this h = some r) : FXs r.2 ∧ EF S_X7_isChoice h r.2 := by
  unfold fX7_isChoice at hf
  cases hf
  exact ⟨hx, (EF.rf (S := S_X7_isChoice) _)⟩
set_option maxHeartbeats 4000000 in
theorem ev_isChoice (F d : Nat) {b : Nat} {h : Hp} (hx : FXs h) {r : Int32 × Hp} (hf : v_isChoice F d b h = some r) : FXs r.2 ∧ EF SV_isChoice h r.2 := by
  unfold v_isChoice at hf
  by_cases e_ : nd_Kd b = 6
  · replace hf := ifp e_ hf
    exact EFc (EF.rf (S := SV_isChoice) _) (eX7_isChoice F d hx hf) (by decide)
  replace hf := ifn e_ hf
  by_cases e_ : nd_Kd b = 7
  · replace hf := ifp e_ hf
    exact EFc (EF.rf (S := SV_isChoice) _) (eX7_isChoice F d hx hf) (by decide)
  replace hf := ifn e_ hf
  by_cases e_ : nd_Kd b = 8
  · replace hf := ifp e_ hf
    exact EFc (EF.rf (S := SV_isChoice) _) (eX12_isChoice F d hx hf) (by decide)
  replace hf := ifn e_ hf
  by_cases e_ : nd_Kd b = 9
  · replace hf := ifp e_ hf
    exact EFc (EF.rf (S := SV_isChoice) _) (eX7_isChoice F d hx hf) (by decide)
  replace hf := ifn e_ hf
  by_cases e_ : nd_Kd b = 11
  · replace hf := ifp e_ hf
    exact EFc (EF.rf (S := SV_isChoice) _) (eX7_isChoice F d hx hf) (by decide)
  replace hf := ifn e_ hf
  by_cases e_ : nd_Kd b = 12
  · replace hf := ifp e_ hf
    exact EFc (EF.rf (S := SV_isChoice) _) (eX7_isChoice F d hx hf) (by decide)
  replace hf := ifn e_ hf
  cases hf
abbrev S_X16_become : SS := ([1600, 1601], [1602], [], [], [])
set_option maxHeartbeats 4000000 in
theorem eX16_become_22 (F d : Nat) (this : Nat) (x3 : Nat) (s0 : Nat) (s1 : Int32) (h : Hp) (hx : FXs h) {r : Option Nat × Hp} (hf : fX16_become_22 F d this x3 s0 s1 h = some r) : FXs r.2 ∧ EF S_X16_become h r.2 := by
  unfold fX16_become_22 at hf
  replace hf := ckE hf
  obtain ⟨c2, hf⟩ := hf
  replace hf := bnE hf
  obtain ⟨h1, e_h1, hf⟩ := hf
  have hx_h1 := FX_sI hx e_h1
  have ef_h1 := EF_sI (EF.rf (S := S_X16_become) _) e_h1 (by decide)
  replace hf := bnE hf
  obtain ⟨h3, e_h3, hf⟩ := hf
  have hx_h3 := FX_sP hx_h1 e_h3 (fun b e => rfl)
  have ef_h3 := EF_sP ef_h1 e_h3 (by decide)
  cases hf
  exact ⟨hx_h3, ef_h3⟩
set_option maxHeartbeats 4000000 in
theorem eX16_become_17 (F d : Nat) (this : Nat) (x3 : Nat) (s0 : Nat) (h : Hp) (hx : FXs h) {r : Option Nat × Hp} (hf : fX16_become_17 F d this x3 s0 h = some r) : FXs r.2 ∧ EF S_X16_become h r.2 := by
  unfold fX16_become_17 at hf
  exact EFj (EF.rf (S := S_X16_become) _) (eX16_become_22 F d _ _ _ _ _ hx hf)
set_option maxHeartbeats 4000000 in
theorem eX16_become (F d : Nat) {this : Nat} {p0 : Int32} {p1 : Int32} {p2 : Nat} {h : Hp} (hx : FXs h) {r : Option Nat × Hp} (hf : fX16_become F d this p0 p1 p2 h = some r) : FXs r.2 ∧ EF S_X16_become h r.2 := by
  unfold fX16_become at hf
  replace hf := bnE hf
  obtain ⟨h1, e_h1, hf⟩ := hf
  have hx_h1 := FX_sI hx e_h1
  have ef_h1 := EF_sI (EF.rf (S := S_X16_become) _) e_h1 (by decide)
  by_cases c2 : p1 = 0
  · replace hf := ifp c2 hf
    replace hf := caE hf
    obtain ⟨v4, h3, e_h3, hf⟩ := hf
    have q_h3 := EFc ef_h1 (ev_isChoice F d hx_h1 e_h3) (by decide)
    have hx_h3 := q_h3.1
    have ef_h3 := q_h3.2
    by_cases c5 : v4 = 0
    · replace hf := ifp c5 hf
      exact EFj ef_h3 (eX16_become_22 F d _ _ _ _ _ hx_h3 hf)
    · replace hf := ifn c5 hf
      exact EFj ef_h3 (eX16_become_17 F d _ _ _ _ hx_h3 hf)
  · replace hf := ifn c2 hf
    exact EFj ef_h1 (eX16_become_17 F d _ _ _ _ hx_h1 hf)
abbrev S_X2_typeOf : SS := ([202, 203, 212, 213, 214, 800, 900, 901, 902, 903, 1001, 1400, 1401, 1402, 1600, 1601], [1000, 1100, 1101, 1300, 1500, 1501, 1602], [211, 1100, 1101], [205, 206, 207, 208, 209, 210, 1000], [6, 7, 8, 9, 10, 11, 12, 20, 24])
set_option maxHeartbeats 4000000 in
theorem eX2_typeOf_135 (F d : Nat) (R_typeOf : Nat → Int32 → Hp → Option (Option Nat × Hp)) (hE_typeOf : ∀ {p0 : Nat} {p1 : Int32} {h : Hp} (_ : FXs h) {r : Option Nat × Hp}, R_typeOf p0 p1 h = some r → FXs r.2 ∧ EF SV_typeOf h r.2) (k_39 : Nat → Int32 → Option Nat → Hp → Option (Option Nat × Hp)) (hk_39 : ∀ (x0 : Nat) (x2 : Int32) (x4 : Option Nat) (h : Hp) (hx : FXs h) {r : Option Nat × Hp}, k_39 x0 x2 x4 h = some r → FXs r.2 ∧ EF S_X2_typeOf h r.2) (x0 : Nat) (x2 : Int32) (x4 : Nat) (s0 : Option Nat) (s1 : Int32) (s2 : Int32) (h : Hp) (hx : FXs h) {r : Option Nat × Hp} (hf : fX2_typeOf_135 F d R_typeOf k_39 x0 x2 x4 s0 s1 s2 h = some r) : FXs r.2 ∧ EF S_X2_typeOf h r.2 := by
  unfold fX2_typeOf_135 at hf
  replace hf := nnE hf
  obtain ⟨a1, e_a1, hf⟩ := hf
  subst e_a1
  replace hf := caE hf
  obtain ⟨v3, h2, e_h2, hf⟩ := hf
  have q_h2 := EFc (EF.rf (S := S_X2_typeOf) _) (eX16_become F d hx e_h2) (by decide)
  have hx_h2 := q_h2.1
  have ef_h2 := q_h2.2
  exact EFj ef_h2 (hk_39 _ _ _ _ hx_h2 hf)
set_option maxHeartbeats 4000000 in
theorem eX2_typeOf_97 (F d : Nat) (R_typeOf : Nat → Int32 → Hp → Option (Option Nat × Hp)) (hE_typeOf : ∀ {p0 : Nat} {p1 : Int32} {h : Hp} (_ : FXs h) {r : Option Nat × Hp}, R_typeOf p0 p1 h = some r → FXs r.2 ∧ EF SV_typeOf h r.2) (k_39 : Nat → Int32 → Option Nat → Hp → Option (Option Nat × Hp)) (hk_39 : ∀ (x0 : Nat) (x2 : Int32) (x4 : Option Nat) (h : Hp) (hx : FXs h) {r : Option Nat × Hp}, k_39 x0 x2 x4 h = some r → FXs r.2 ∧ EF S_X2_typeOf h r.2) (x0 : Nat) (x2 : Int32) (x4 : Nat) (x5 : Int32) (h : Hp) (hx : FXs h) {r : Option Nat × Hp} (hf : fX2_typeOf_97 F d R_typeOf k_39 x0 x2 x4 x5 h = some r) : FXs r.2 ∧ EF S_X2_typeOf h r.2 := by
  unfold fX2_typeOf_97 at hf
  replace hf := nnE hf
  obtain ⟨a2, e_a2, hf⟩ := hf
  have sa_a2 := hx 210 _ _ e_a2
  replace hf := ckE hf
  obtain ⟨c3, hf⟩ := hf
  replace hf := bnE hf
  obtain ⟨o5, e_o5, hf⟩ := hf
  replace hf := nnE hf
  obtain ⟨a7, e_a7, hf⟩ := hf
  have sa_a7 := hx 200 _ _ e_a7
  replace hf := ckE hf
  obtain ⟨c8, hf⟩ := hf
  replace hf := nnE hf
  obtain ⟨a10, e_a10, hf⟩ := hf
  have sa_a10 := hx 200 _ _ e_a10
  replace hf := ckE hf
  obtain ⟨c11, hf⟩ := hf
  by_cases c12 : (gA h a10 (Int32.toNatClampNeg (x5 + 2))) = 33
  · replace hf := ifp c12 hf
    exact EFj (EF.rf (S := S_X2_typeOf) _) (eX2_typeOf_135 F d R_typeOf hE_typeOf k_39 hk_39 _ _ _ _ _ _ _ hx hf)
  · replace hf := ifn c12 hf
    exact EFj (EF.rf (S := S_X2_typeOf) _) (eX2_typeOf_135 F d R_typeOf hE_typeOf k_39 hk_39 _ _ _ _ _ _ _ hx hf)
set_option maxHeartbeats 4000000 in
theorem eX2_typeOf_39 (F d : Nat) (R_typeOf : Nat → Int32 → Hp → Option (Option Nat × Hp)) (hE_typeOf : ∀ {p0 : Nat} {p1 : Int32} {h : Hp} (_ : FXs h) {r : Option Nat × Hp}, R_typeOf p0 p1 h = some r → FXs r.2 ∧ EF SV_typeOf h r.2) : ∀ (n : Nat) (x0 : Nat) (x2 : Int32) (x4 : Option Nat) (h : Hp) (hx : FXs h) {r : Option Nat × Hp}, fX2_typeOf_39 F d R_typeOf n x0 x2 x4 h = some r → FXs r.2 ∧ EF S_X2_typeOf h r.2 := by
  intro n
  induction n with
  | zero => intro _ _ _ _ _ r hf; cases hf
  | succ n ih =>
    intro x0 x2 x4 h hx r hf
    unfold fX2_typeOf_39 at hf
    rcases nd_on x4 with e_a1 | ⟨a1, e_a1⟩
    · replace hf := ocN e_a1 hf
      subst e_a1
      cases hf
      exact ⟨hx, (EF.rf (S := S_X2_typeOf) _)⟩
    · replace hf := ocS e_a1 hf
      subst e_a1
      by_cases c2 : (gI h 212 x0) ≤ x2
      · replace hf := ifp c2 hf
        cases hf
        exact ⟨hx, (EF.rf (S := S_X2_typeOf) _)⟩
      · replace hf := ifn c2 hf
        replace hf := bnE hf
        obtain ⟨h3, e_h3, hf⟩ := hf
        have hx_h3 := FX_sI hx e_h3
        have ef_h3 := EF_sI (EF.rf (S := S_X2_typeOf) _) e_h3 (by decide)
        replace hf := nnE hf
        obtain ⟨a5, e_a5, hf⟩ := hf
        have sa_a5 := hx_h3 211 _ _ e_a5
        replace hf := ckE hf
        obtain ⟨c6, hf⟩ := hf
        replace hf := bnE hf
        obtain ⟨v7, e_v7, hf⟩ := hf
        replace hf := nnE hf
        obtain ⟨a9, e_a9, hf⟩ := hf
        have sa_a9 := hx_h3 210 _ _ e_a9
        replace hf := ckE hf
        obtain ⟨c10, hf⟩ := hf
        replace hf := bnE hf
        obtain ⟨o12, e_o12, hf⟩ := hf
        rcases nd_on o12 with e_a13 | ⟨a13, e_a13⟩
        · replace hf := ocN e_a13 hf
          subst e_a13
          replace hf := nnE hf
          obtain ⟨a15, e_a15, hf⟩ := hf
          have sa_a15 := hx_h3 210 _ _ e_a15
          replace hf := bnE hf
          obtain ⟨n18, e_n18, hf⟩ := hf
          replace hf := ckE hf
          obtain ⟨c16, hf⟩ := hf
          replace hf := bnE hf
          obtain ⟨h17, e_h17, hf⟩ := hf
          have hx_h17 := FX_nw hx_h3 e_h17
          have ef_h17 := EF_nw ef_h3 e_h17 (freE c16).1 (by rw [(freE c16).2]; decide) (by rw [(freE c16).2]; decide) (by decide) (by rw [(freE c16).2]; decide)
          replace hf := cvE hf
          obtain ⟨h19, e_h19, hf⟩ := hf
          have q_h19 := EFc ef_h17 (eX16_init F d hx_h17 e_h19) (by decide)
          have hx_h19 := q_h19.1
          have ef_h19 := q_h19.2
          replace hf := ckE hf
          obtain ⟨c21, hf⟩ := hf
          replace hf := bnE hf
          obtain ⟨h22, e_h22, hf⟩ := hf
          have hx_h22 := FX_sR hx_h19 e_h22
          have ef_h22 := EF_sR ef_h19 e_h22 (f := 210) (by decide) sa_a15
          exact EFj ef_h22 (eX2_typeOf_97 F d R_typeOf hE_typeOf (fX2_typeOf_39 F d R_typeOf n) ih _ _ _ _ _ hx_h22 hf)
        · replace hf := ocS e_a13 hf
          subst e_a13
          exact EFj ef_h3 (eX2_typeOf_97 F d R_typeOf hE_typeOf (fX2_typeOf_39 F d R_typeOf n) ih _ _ _ _ _ hx_h3 hf)
set_option maxHeartbeats 4000000 in
theorem eX2_typeOf_5 (F d : Nat) (R_typeOf : Nat → Int32 → Hp → Option (Option Nat × Hp)) (hE_typeOf : ∀ {p0 : Nat} {p1 : Int32} {h : Hp} (_ : FXs h) {r : Option Nat × Hp}, R_typeOf p0 p1 h = some r → FXs r.2 ∧ EF SV_typeOf h r.2) : ∀ (n : Nat) (x0 : Nat) (x1 : Int32) (x2 : Int32) (h : Hp) (hx : FXs h) {r : Option Nat × Hp}, fX2_typeOf_5 F d R_typeOf n x0 x1 x2 h = some r → FXs r.2 ∧ EF S_X2_typeOf h r.2 := by
  intro n
  induction n with
  | zero => intro _ _ _ _ _ r hf; cases hf
  | succ n ih =>
    intro x0 x1 x2 h hx r hf
    unfold fX2_typeOf_5 at hf
    replace hf := caE hf
    obtain ⟨v2, h1, e_h1, hf⟩ := hf
    have q_h1 := EFc (EF.rf (S := S_X2_typeOf) _) (eX2_look F d hx e_h1) (by decide)
    have hx_h1 := q_h1.1
    have ef_h1 := q_h1.2
    by_cases c3 : v2 = 91
    · replace hf := ifp c3 hf
      replace hf := caE hf
      obtain ⟨v9, h8, e_h8, hf⟩ := hf
      have q_h8 := EFc ef_h1 (eX2_isTag F d hx_h1 e_h8) (by decide)
      have hx_h8 := q_h8.1
      have ef_h8 := q_h8.2
      by_cases c10 : v9 = 0
      · replace hf := ifp c10 hf
        cases hf
        exact ⟨hx_h8, ef_h8⟩
      · replace hf := ifn c10 hf
        exact EFj ef_h8 (ih _ _ _ _ hx_h8 hf)
    · replace hf := ifn c3 hf
      replace hf := bnE hf
      obtain ⟨v4, e_v4, hf⟩ := hf
      replace hf := caE hf
      obtain ⟨v6, h5, e_h5, hf⟩ := hf
      have q_h5 := EFc ef_h1 (eX2_bodyOf F d R_typeOf hE_typeOf hx_h1 e_h5) (by decide)
      have hx_h5 := q_h5.1
      have ef_h5 := q_h5.2
      exact EFj ef_h5 (eX2_typeOf_39 F d R_typeOf hE_typeOf F _ _ _ _ hx_h5 hf)
set_option maxHeartbeats 4000000 in
theorem eX2_typeOf (F d : Nat) (R_typeOf : Nat → Int32 → Hp → Option (Option Nat × Hp)) (hE_typeOf : ∀ {p0 : Nat} {p1 : Int32} {h : Hp} (_ : FXs h) {r : Option Nat × Hp}, R_typeOf p0 p1 h = some r → FXs r.2 ∧ EF SV_typeOf h r.2) {p0 : Nat} {p1 : Int32} {h : Hp} (hx : FXs h) {r : Option Nat × Hp} (hf : fX2_typeOf F d R_typeOf p0 p1 h = some r) : FXs r.2 ∧ EF S_X2_typeOf h r.2 := by
  unfold fX2_typeOf at hf
  replace hf := bnE hf
  obtain ⟨v1, e_v1, hf⟩ := hf
  exact EFj (EF.rf (S := S_X2_typeOf) _) (eX2_typeOf_5 F d R_typeOf hE_typeOf F _ _ _ _ hx hf)
set_option maxHeartbeats 4000000 in
theorem ev_typeOf (F : Nat) : ∀ (d : Nat) {p0 : Nat} {p1 : Int32} {h : Hp} (_ : FXs h) {r : Option Nat × Hp}, v_typeOf F d p0 p1 h = some r → FXs r.2 ∧ EF SV_typeOf h r.2 := by
  intro d
  induction d with
  | zero => intro p0 p1 h hx r hf; cases hf
  | succ d ih =>
    intro p0 p1 h hx r hf
    unfold v_typeOf at hf
    exact EFc (EF.rf (S := SV_typeOf) _) (eX2_typeOf F d (v_typeOf F d) ih hx hf) (by decide)
abbrev S_X2_define : SS := ([202, 203, 212, 213, 214, 800, 900, 901, 902, 903, 1001, 1400, 1401, 1402, 1600, 1601], [1000, 1100, 1101, 1300, 1500, 1501, 1602], [211, 1100, 1101], [204, 205, 206, 207, 208, 209, 210, 1000], [6, 7, 8, 9, 10, 11, 12, 20, 24])
set_option maxHeartbeats 4000000 in
theorem eX2_define_72 (F d : Nat) (x0 : Nat) (x1 : Int32) (s0 : Option Nat) (h : Hp) (hx : FXs h) {r : Int32 × Hp} (hf : fX2_define_72 F d x0 x1 s0 h = some r) : FXs r.2 ∧ EF S_X2_define h r.2 := by
  unfold fX2_define_72 at hf
  rcases nd_on s0 with e_a1 | ⟨a1, e_a1⟩
  · replace hf := ocN e_a1 hf
    subst e_a1
    cases hf
    exact ⟨hx, (EF.rf (S := S_X2_define) _)⟩
  · replace hf := ocS e_a1 hf
    subst e_a1
    replace hf := caE hf
    obtain ⟨v3, h2, e_h2, hf⟩ := hf
    have q_h2 := EFc (EF.rf (S := S_X2_define) _) (eX2_expect F d hx e_h2) (by decide)
    have hx_h2 := q_h2.1
    have ef_h2 := q_h2.2
    by_cases c4 : v3 = 0
    · replace hf := ifp c4 hf
      cases hf
      exact ⟨hx_h2, ef_h2⟩
    · replace hf := ifn c4 hf
      replace hf := nnE hf
      obtain ⟨a6, e_a6, hf⟩ := hf
      have sa_a6 := hx_h2 204 _ _ e_a6
      replace hf := ckE hf
      obtain ⟨c7, hf⟩ := hf
      replace hf := bnE hf
      obtain ⟨h8, e_h8, hf⟩ := hf
      have hx_h8 := FX_sR hx_h2 e_h8
      have ef_h8 := EF_sR ef_h2 e_h8 (f := 204) (by decide) sa_a6
      cases hf
      exact ⟨hx_h8, ef_h8⟩
set_option maxHeartbeats 4000000 in
theorem eX2_define (F d : Nat) {p0 : Nat} {h : Hp} (hx : FXs h) {r : Int32 × Hp} (hf : fX2_define F d p0 h = some r) : FXs r.2 ∧ EF S_X2_define h r.2 := by
  unfold fX2_define at hf
  replace hf := caE hf
  obtain ⟨v2, h1, e_h1, hf⟩ := hf
  have q_h1 := EFc (EF.rf (S := S_X2_define) _) (eX2_isName F d hx e_h1) (by decide)
  have hx_h1 := q_h1.1
  have ef_h1 := q_h1.2
  by_cases c3 : v2 = 0
  · replace hf := ifp c3 hf
    replace hf := caE hf
    obtain ⟨v24, h23, e_h23, hf⟩ := hf
    have q_h23 := EFc ef_h1 (eX2_wrong F d hx_h1 e_h23) (by decide)
    have hx_h23 := q_h23.1
    have ef_h23 := q_h23.2
    replace hf := ckE hf
    obtain ⟨c25, hf⟩ := hf
    cases hf
    exact ⟨hx_h23, ef_h23⟩
  · replace hf := ifn c3 hf
    replace hf := caE hf
    obtain ⟨v5, h4, e_h4, hf⟩ := hf
    have q_h4 := EFc ef_h1 (eX2_look F d hx_h1 e_h4) (by decide)
    have hx_h4 := q_h4.1
    have ef_h4 := q_h4.2
    replace hf := bnE hf
    obtain ⟨v6, e_v6, hf⟩ := hf
    replace hf := nnE hf
    obtain ⟨a8, e_a8, hf⟩ := hf
    have sa_a8 := hx_h4 204 _ _ e_a8
    replace hf := ckE hf
    obtain ⟨c9, hf⟩ := hf
    replace hf := bnE hf
    obtain ⟨o11, e_o11, hf⟩ := hf
    rcases nd_on o11 with e_a12 | ⟨a12, e_a12⟩
    · replace hf := ocN e_a12 hf
      subst e_a12
      replace hf := bnE hf
      obtain ⟨h13, e_h13, hf⟩ := hf
      have hx_h13 := FX_sI hx_h4 e_h13
      have ef_h13 := EF_sI ef_h4 e_h13 (by decide)
      replace hf := caE hf
      obtain ⟨v15, h14, e_h14, hf⟩ := hf
      have q_h14 := EFc ef_h13 (eX2_expect F d hx_h13 e_h14) (by decide)
      have hx_h14 := q_h14.1
      have ef_h14 := q_h14.2
      by_cases c16 : v15 = 0
      · replace hf := ifp c16 hf
        exact EFj ef_h14 (eX2_define_72 F d _ _ _ _ hx_h14 hf)
      · replace hf := ifn c16 hf
        replace hf := caE hf
        obtain ⟨v18, h17, e_h17, hf⟩ := hf
        have q_h17 := EFc ef_h14 (ev_typeOf F d hx_h14 e_h17) (by decide)
        have hx_h17 := q_h17.1
        have ef_h17 := q_h17.2
        exact EFj ef_h17 (eX2_define_72 F d _ _ _ _ hx_h17 hf)
    · replace hf := ocS e_a12 hf
      subst e_a12
      replace hf := caE hf
      obtain ⟨v21, h20, e_h20, hf⟩ := hf
      have q_h20 := EFc ef_h4 (eX2_wrong F d hx_h4 e_h20) (by decide)
      have hx_h20 := q_h20.1
      have ef_h20 := q_h20.2
      replace hf := ckE hf
      obtain ⟨c22, hf⟩ := hf
      cases hf
      exact ⟨hx_h20, ef_h20⟩
abbrev S_X2_run : SS := ([202, 203, 212, 213, 214, 800, 900, 901, 902, 903, 1001, 1400, 1401, 1402, 1600, 1601], [1000, 1100, 1101, 1300, 1500, 1501, 1602], [211, 1100, 1101], [204, 205, 206, 207, 208, 209, 210, 1000], [6, 7, 8, 9, 10, 11, 12, 20, 24])
set_option maxHeartbeats 4000000 in
theorem eX2_run_36 (F d : Nat) : ∀ (n : Nat) (this : Nat) (h : Hp) (hx : FXs h) {r : Int32 × Hp}, fX2_run_36 F d n this h = some r → FXs r.2 ∧ EF S_X2_run h r.2 := by
  intro n
  induction n with
  | zero => intro _ _ _ r hf; cases hf
  | succ n ih =>
    intro this h hx r hf
    unfold fX2_run_36 at hf
    replace hf := caE hf
    obtain ⟨v2, h1, e_h1, hf⟩ := hf
    have q_h1 := EFc (EF.rf (S := S_X2_run) _) (eX2_define F d hx e_h1) (by decide)
    have hx_h1 := q_h1.1
    have ef_h1 := q_h1.2
    by_cases c3 : v2 = 0
    · replace hf := ifp c3 hf
      cases hf
      exact ⟨hx_h1, ef_h1⟩
    · replace hf := ifn c3 hf
      by_cases c4 : (gI h1 202 this) < (gI h1 201 this)
      · replace hf := ifp c4 hf
        exact EFj ef_h1 (ih _ _ hx_h1 hf)
      · replace hf := ifn c4 hf
        cases hf
        exact ⟨hx_h1, ef_h1⟩
set_option maxHeartbeats 4000000 in
theorem eX2_run_17 (F d : Nat) : ∀ (n : Nat) (this : Nat) (x1 : Int32) (h : Hp) (hx : FXs h) {r : Int32 × Hp}, fX2_run_17 F d n this x1 h = some r → FXs r.2 ∧ EF S_X2_run h r.2 := by
  intro n
  induction n with
  | zero => intro _ _ _ _ r hf; cases hf
  | succ n ih =>
    intro this x1 h hx r hf
    unfold fX2_run_17 at hf
    by_cases c1 : 26 ≤ x1
    · replace hf := ifp c1 hf
      exact EFj (EF.rf (S := S_X2_run) _) (eX2_run_36 F d F _ _ hx hf)
    · replace hf := ifn c1 hf
      replace hf := nnE hf
      obtain ⟨a3, e_a3, hf⟩ := hf
      have sa_a3 := hx 204 _ _ e_a3
      replace hf := ckE hf
      obtain ⟨c4, hf⟩ := hf
      replace hf := bnE hf
      obtain ⟨h5, e_h5, hf⟩ := hf
      have hx_h5 := FX_sR hx e_h5
      have ef_h5 := EF_sR (EF.rf (S := S_X2_run) _) e_h5 (f := 204) (by decide) sa_a3
      replace hf := bnE hf
      obtain ⟨v6, e_v6, hf⟩ := hf
      exact EFj ef_h5 (ih _ _ _ hx_h5 hf)
set_option maxHeartbeats 4000000 in
theorem eX2_run (F d : Nat) {this : Nat} {h : Hp} (hx : FXs h) {r : Int32 × Hp} (hf : fX2_run F d this h = some r) : FXs r.2 ∧ EF S_X2_run h r.2 := by
  unfold fX2_run at hf
  replace hf := bnE hf
  obtain ⟨h1, e_h1, hf⟩ := hf
  have hx_h1 := FX_sI hx e_h1
  have ef_h1 := EF_sI (EF.rf (S := S_X2_run) _) e_h1 (by decide)
  replace hf := bnE hf
  obtain ⟨h2, e_h2, hf⟩ := hf
  have hx_h2 := FX_sI hx_h1 e_h2
  have ef_h2 := EF_sI ef_h1 e_h2 (by decide)
  replace hf := bnE hf
  obtain ⟨h3, e_h3, hf⟩ := hf
  have hx_h3 := FX_sI hx_h2 e_h3
  have ef_h3 := EF_sI ef_h2 e_h3 (by decide)
  exact EFj ef_h3 (eX2_run_17 F d F _ _ _ hx_h3 hf)
abbrev S_X1_bytesOf : SS := ([], [], [], [], [])
set_option maxHeartbeats 4000000 in
theorem eX1_bytesOf (F d : Nat) {p0 : Int32} {h : Hp} (hx : FXs h) {r : Int32 × Hp} (hf : fX1_bytesOf F d p0 h = some r) : FXs r.2 ∧ EF S_X1_bytesOf h r.2 := by
  unfold fX1_bytesOf at hf
  replace hf := caE hf
  obtain ⟨v2, h1, e_h1, hf⟩ := hf
  have q_h1 := EFc (EF.rf (S := S_X1_bytesOf) _) (eX1_outside F d hx e_h1) (by decide)
  have hx_h1 := q_h1.1
  have ef_h1 := q_h1.2
  by_cases c3 : v2 = 0
  · replace hf := ifp c3 hf
    cases hf
    exact ⟨hx_h1, ef_h1⟩
  · replace hf := ifn c3 hf
    replace hf := caE hf
    obtain ⟨v5, h4, e_h4, hf⟩ := hf
    have q_h4 := EFc ef_h1 (eX1_outside F d hx_h1 e_h4) (by decide)
    have hx_h4 := q_h4.1
    have ef_h4 := q_h4.2
    by_cases c6 : v5 = 0
    · replace hf := ifp c6 hf
      cases hf
      exact ⟨hx_h4, ef_h4⟩
    · replace hf := ifn c6 hf
      replace hf := caE hf
      obtain ⟨v8, h7, e_h7, hf⟩ := hf
      have q_h7 := EFc ef_h4 (eX1_outside F d hx_h4 e_h7) (by decide)
      have hx_h7 := q_h7.1
      have ef_h7 := q_h7.2
      by_cases c9 : v8 = 0
      · replace hf := ifp c9 hf
        cases hf
        exact ⟨hx_h7, ef_h7⟩
      · replace hf := ifn c9 hf
        cases hf
        exact ⟨hx_h7, ef_h7⟩
abbrev S_X9_content : SS := ([], [], [], [], [])
set_option maxHeartbeats 4000000 in
theorem eX9_content (F d : Nat) {this : Nat} {p0 : Nat} {h : Hp} (hx : FXs h) {r : Int32 × Hp} (hf : fX9_content F d this p0 h = some r) : FXs r.2 ∧ EF S_X9_content h r.2 := by
  unfold fX9_content at hf
  by_cases c1 : (gI h 900 this) = 5
  · replace hf := ifp c1 hf
    cases hf
    exact ⟨hx, (EF.rf (S := S_X9_content) _)⟩
  · replace hf := ifn c1 hf
    by_cases c2 : (gI h 900 this) = 1
    · replace hf := ifp c2 hf
      cases hf
      exact ⟨hx, (EF.rf (S := S_X9_content) _)⟩
    · replace hf := ifn c2 hf
      replace hf := caE hf
      obtain ⟨v4, h3, e_h3, hf⟩ := hf
      have q_h3 := EFc (EF.rf (S := S_X9_content) _) (eX1_bytesOf F d hx e_h3) (by decide)
      have hx_h3 := q_h3.1
      have ef_h3 := q_h3.2
      cases hf
      exact ⟨hx_h3, ef_h3⟩
abbrev S_X9_given : SS := ([303, 1700, 1701, 1702, 1703], [1706, 1707, 1708], [], [300], [13])
set_option maxHeartbeats 4000000 in
theorem eX9_given (F d : Nat) {this : Nat} {p0 : Nat} {p1 : Int32} {h : Hp} (hx : FXs h) {r : Option Nat × Hp} (hf : fX9_given F d this p0 p1 h = some r) : FXs r.2 ∧ EF S_X9_given h r.2 := by
  unfold fX9_given at hf
  replace hf := caE hf
  obtain ⟨v2, h1, e_h1, hf⟩ := hf
  have q_h1 := EFc (EF.rf (S := S_X9_given) _) (eX3_make F d hx e_h1) (by decide)
  have hx_h1 := q_h1.1
  have ef_h1 := q_h1.2
  cases hf
  exact ⟨hx_h1, ef_h1⟩
abbrev S_X5_add : SS := ([501], [], [500], [], [])
set_option maxHeartbeats 4000000 in
theorem eX5_add (F d : Nat) {this : Nat} {p0 : Int32} {h : Hp} (hx : FXs h) {r : Hp} (hf : fX5_add F d this p0 h = some r) : FXs r ∧ EF S_X5_add h r := by
  unfold fX5_add at hf
  replace hf := cvE hf
  obtain ⟨h1, e_h1, hf⟩ := hf
  have q_h1 := EFc (EF.rf (S := S_X5_add) _) (eX5_put F d hx e_h1) (by decide)
  have hx_h1 := q_h1.1
  have ef_h1 := q_h1.2
  cases hf
  exact ⟨hx_h1, ef_h1⟩
abbrev S_X5_putInt : SS := ([501], [], [500], [], [])
set_option maxHeartbeats 4000000 in
theorem eX5_putInt_9 (F d : Nat) : ∀ (n : Nat) (this : Nat) (x1 : Int32) (x3 : Int32) (h : Hp) (hx : FXs h) {r : Hp}, fX5_putInt_9 F d n this x1 x3 h = some r → FXs r ∧ EF S_X5_putInt h r := by
  intro n
  induction n with
  | zero => intro _ _ _ _ _ r hf; cases hf
  | succ n ih =>
    intro this x1 x3 h hx r hf
    unfold fX5_putInt_9 at hf
    by_cases c1 : x3 < 0
    · replace hf := ifp c1 hf
      cases hf
      exact ⟨hx, (EF.rf (S := S_X5_putInt) _)⟩
    · replace hf := ifn c1 hf
      replace hf := cvE hf
      obtain ⟨h2, e_h2, hf⟩ := hf
      have q_h2 := EFc (EF.rf (S := S_X5_putInt) _) (eX5_add F d hx e_h2) (by decide)
      have hx_h2 := q_h2.1
      have ef_h2 := q_h2.2
      replace hf := bnE hf
      obtain ⟨v4, e_v4, hf⟩ := hf
      exact EFj ef_h2 (ih _ _ _ _ hx_h2 hf)
set_option maxHeartbeats 4000000 in
theorem eX5_putInt (F d : Nat) {this : Nat} {p0 : Int32} {h : Hp} (hx : FXs h) {r : Hp} (hf : fX5_putInt F d this p0 h = some r) : FXs r ∧ EF S_X5_putInt h r := by
  unfold fX5_putInt at hf
  replace hf := caE hf
  obtain ⟨v2, h1, e_h1, hf⟩ := hf
  have q_h1 := EFc (EF.rf (S := S_X5_putInt) _) (eX1_bytesOf F d hx e_h1) (by decide)
  have hx_h1 := q_h1.1
  have ef_h1 := q_h1.2
  replace hf := bnE hf
  obtain ⟨v3, e_v3, hf⟩ := hf
  exact EFj ef_h1 (eX5_putInt_9 F d F _ _ _ _ hx_h1 hf)
abbrev S_X9_pack : SS := ([501], [], [500], [], [])
set_option maxHeartbeats 4000000 in
theorem eX9_pack (F d : Nat) {this : Nat} {p0 : Nat} {p1 : Nat} {h : Hp} (hx : FXs h) {r : Hp} (hf : fX9_pack F d this p0 p1 h = some r) : FXs r ∧ EF S_X9_pack h r := by
  unfold fX9_pack at hf
  by_cases c1 : (gI h 901 this) = 0
  · replace hf := ifp c1 hf
    replace hf := caE hf
    obtain ⟨v3, h2, e_h2, hf⟩ := hf
    have q_h2 := EFc (EF.rf (S := S_X9_pack) _) (eX1_bytesOf F d hx e_h2) (by decide)
    have hx_h2 := q_h2.1
    have ef_h2 := q_h2.2
    replace hf := cvE hf
    obtain ⟨h4, e_h4, hf⟩ := hf
    have q_h4 := EFc ef_h2 (eX5_putNumber F d hx_h2 e_h4) (by decide)
    have hx_h4 := q_h4.1
    have ef_h4 := q_h4.2
    replace hf := cvE hf
    obtain ⟨h6, e_h6, hf⟩ := hf
    have q_h6 := EFc ef_h4 (eX5_putInt F d hx_h4 e_h6) (by decide)
    have hx_h6 := q_h6.1
    have ef_h6 := q_h6.2
    cases hf
    exact ⟨hx_h6, ef_h6⟩
  · replace hf := ifn c1 hf
    replace hf := cvE hf
    obtain ⟨h8, e_h8, hf⟩ := hf
    have q_h8 := EFc (EF.rf (S := S_X9_pack) _) (eX5_putNumber F d hx e_h8) (by decide)
    have hx_h8 := q_h8.1
    have ef_h8 := q_h8.2
    cases hf
    exact ⟨hx_h8, ef_h8⟩
abbrev S_X4_next : SS := ([401], [], [], [], [])
set_option maxHeartbeats 4000000 in
theorem eX4_next (F d : Nat) {this : Nat} {h : Hp} (hx : FXs h) {r : Int32 × Hp} (hf : fX4_next F d this h = some r) : FXs r.2 ∧ EF S_X4_next h r.2 := by
  unfold fX4_next at hf
  by_cases c1 : (gI h 401 this) < (gI h 402 this)
  · replace hf := ifp c1 hf
    replace hf := bnE hf
    obtain ⟨h2, e_h2, hf⟩ := hf
    have hx_h2 := FX_sI hx e_h2
    have ef_h2 := EF_sI (EF.rf (S := S_X4_next) _) e_h2 (by decide)
    replace hf := nnE hf
    obtain ⟨a4, e_a4, hf⟩ := hf
    have sa_a4 := hx_h2 400 _ _ e_a4
    replace hf := ckE hf
    obtain ⟨c5, hf⟩ := hf
    cases hf
    exact ⟨hx_h2, ef_h2⟩
  · replace hf := ifn c1 hf
    cases hf
    exact ⟨hx, (EF.rf (S := S_X4_next) _)⟩
abbrev S_X9_readContent : SS := ([303, 401, 1700, 1701, 1702, 1703], [1706, 1707, 1708], [], [300], [13])
set_option maxHeartbeats 4000000 in
theorem eX9_readContent_111 (F d : Nat) (this : Nat) (x1 : Nat) (x3 : Int32) (h : Hp) (hx : FXs h) {r : Option Nat × Hp} (hf : fX9_readContent_111 F d this x1 x3 h = some r) : FXs r.2 ∧ EF S_X9_readContent h r.2 := by
  unfold fX9_readContent_111 at hf
  replace hf := caE hf
  obtain ⟨v2, h1, e_h1, hf⟩ := hf
  have q_h1 := EFc (EF.rf (S := S_X9_readContent) _) (eX9_isRight F d hx e_h1) (by decide)
  have hx_h1 := q_h1.1
  have ef_h1 := q_h1.2
  by_cases c3 : v2 = 0
  · replace hf := ifp c3 hf
    cases hf
    exact ⟨hx_h1, ef_h1⟩
  · replace hf := ifn c3 hf
    replace hf := nnE hf
    obtain ⟨a5, e_a5, hf⟩ := hf
    replace hf := caE hf
    obtain ⟨v7, h6, e_h6, hf⟩ := hf
    have q_h6 := EFc ef_h1 (eX9_given F d hx_h1 e_h6) (by decide)
    have hx_h6 := q_h6.1
    have ef_h6 := q_h6.2
    cases hf
    exact ⟨hx_h6, ef_h6⟩
set_option maxHeartbeats 4000000 in
theorem eX9_readContent_97 (F d : Nat) (this : Nat) (x1 : Nat) (s0 : Int32) (h : Hp) (hx : FXs h) {r : Option Nat × Hp} (hf : fX9_readContent_97 F d this x1 s0 h = some r) : FXs r.2 ∧ EF S_X9_readContent h r.2 := by
  unfold fX9_readContent_97 at hf
  exact EFj (EF.rf (S := S_X9_readContent) _) (eX9_readContent_111 F d _ _ _ _ hx hf)
set_option maxHeartbeats 4000000 in
theorem eX9_readContent_58 (F d : Nat) : ∀ (n : Nat) (this : Nat) (x1 : Nat) (x2 : Int32) (x3 : Int32) (x4 : Int32) (h : Hp) (hx : FXs h) {r : Option Nat × Hp}, fX9_readContent_58 F d n this x1 x2 x3 x4 h = some r → FXs r.2 ∧ EF S_X9_readContent h r.2 := by
  intro n
  induction n with
  | zero => intro _ _ _ _ _ _ _ r hf; cases hf
  | succ n ih =>
    intro this x1 x2 x3 x4 h hx r hf
    unfold fX9_readContent_58 at hf
    by_cases c1 : x2 ≤ x4
    · replace hf := ifp c1 hf
      by_cases c2 : (gI h 900 this) = 1
      · replace hf := ifp c2 hf
        by_cases c6 : x3 = 0
        · replace hf := ifp c6 hf
          exact EFj (EF.rf (S := S_X9_readContent) _) (eX9_readContent_97 F d _ _ _ _ hx hf)
        · replace hf := ifn c6 hf
          exact EFj (EF.rf (S := S_X9_readContent) _) (eX9_readContent_97 F d _ _ _ _ hx hf)
      · replace hf := ifn c2 hf
        replace hf := caE hf
        obtain ⟨v4, h3, e_h3, hf⟩ := hf
        have q_h3 := EFc (EF.rf (S := S_X9_readContent) _) (eX1_bytesOf F d hx e_h3) (by decide)
        have hx_h3 := q_h3.1
        have ef_h3 := q_h3.2
        by_cases c5 : v4 = x2
        · replace hf := ifp c5 hf
          exact EFj ef_h3 (eX9_readContent_111 F d _ _ _ _ hx_h3 hf)
        · replace hf := ifn c5 hf
          cases hf
          exact ⟨hx_h3, ef_h3⟩
    · replace hf := ifn c1 hf
      replace hf := caE hf
      obtain ⟨v8, h7, e_h7, hf⟩ := hf
      have q_h7 := EFc (EF.rf (S := S_X9_readContent) _) (eX4_next F d hx e_h7) (by decide)
      have hx_h7 := q_h7.1
      have ef_h7 := q_h7.2
      replace hf := bnE hf
      obtain ⟨v9, e_v9, hf⟩ := hf
      replace hf := bnE hf
      obtain ⟨v10, e_v10, hf⟩ := hf
      exact EFj ef_h7 (ih _ _ _ _ _ _ hx_h7 hf)
set_option maxHeartbeats 4000000 in
theorem eX9_readContent_41 (F d : Nat) (this : Nat) (x1 : Nat) (x2 : Int32) (s0 : Int32) (s1 : Int32) (s2 : Int32) (h : Hp) (hx : FXs h) {r : Option Nat × Hp} (hf : fX9_readContent_41 F d this x1 x2 s0 s1 s2 h = some r) : FXs r.2 ∧ EF S_X9_readContent h r.2 := by
  unfold fX9_readContent_41 at hf
  replace hf := caE hf
  obtain ⟨v2, h1, e_h1, hf⟩ := hf
  have q_h1 := EFc (EF.rf (S := S_X9_readContent) _) (eX1_outside F d hx e_h1) (by decide)
  have hx_h1 := q_h1.1
  have ef_h1 := q_h1.2
  by_cases c3 : v2 = 0
  · replace hf := ifp c3 hf
    replace hf := caE hf
    obtain ⟨v5, h4, e_h4, hf⟩ := hf
    have q_h4 := EFc ef_h1 (eX4_next F d hx_h1 e_h4) (by decide)
    have hx_h4 := q_h4.1
    have ef_h4 := q_h4.2
    replace hf := bnE hf
    obtain ⟨v6, e_v6, hf⟩ := hf
    exact EFj ef_h4 (eX9_readContent_58 F d F _ _ _ _ _ _ hx_h4 hf)
  · replace hf := ifn c3 hf
    cases hf
    exact ⟨hx_h1, ef_h1⟩
set_option maxHeartbeats 4000000 in
theorem eX9_readContent (F d : Nat) {this : Nat} {p0 : Nat} {p1 : Int32} {h : Hp} (hx : FXs h) {r : Option Nat × Hp} (hf : fX9_readContent F d this p0 p1 h = some r) : FXs r.2 ∧ EF S_X9_readContent h r.2 := by
  unfold fX9_readContent at hf
  by_cases c1 : (gI h 900 this) = 5
  · replace hf := ifp c1 hf
    by_cases c3 : p1 = 0
    · replace hf := ifp c3 hf
      replace hf := nnE hf
      obtain ⟨a5, e_a5, hf⟩ := hf
      replace hf := caE hf
      obtain ⟨v7, h6, e_h6, hf⟩ := hf
      have q_h6 := EFc (EF.rf (S := S_X9_readContent) _) (eX9_given F d hx e_h6) (by decide)
      have hx_h6 := q_h6.1
      have ef_h6 := q_h6.2
      cases hf
      exact ⟨hx_h6, ef_h6⟩
    · replace hf := ifn c3 hf
      cases hf
      exact ⟨hx, (EF.rf (S := S_X9_readContent) _)⟩
  · replace hf := ifn c1 hf
    by_cases c2 : (gI h 900 this) = 1
    · replace hf := ifp c2 hf
      exact EFj (EF.rf (S := S_X9_readContent) _) (eX9_readContent_41 F d _ _ _ _ _ _ _ hx hf)
    · replace hf := ifn c2 hf
      exact EFj (EF.rf (S := S_X9_readContent) _) (eX9_readContent_41 F d _ _ _ _ _ _ _ hx hf)
abbrev S_X9_unpack : SS := ([303, 403, 1700, 1701, 1702, 1703], [1706, 1707, 1708], [], [300], [13])
set_option maxHeartbeats 4000000 in
theorem eX9_unpack_80 (F d : Nat) : ∀ (n : Nat) (this : Nat) (x1 : Nat) (x2 : Int32) (x3 : Int32) (x4 : Int32) (h : Hp) (hx : FXs h) {r : Option Nat × Hp}, fX9_unpack_80 F d n this x1 x2 x3 x4 h = some r → FXs r.2 ∧ EF S_X9_unpack h r.2 := by
  intro n
  induction n with
  | zero => intro _ _ _ _ _ _ _ r hf; cases hf
  | succ n ih =>
    intro this x1 x2 x3 x4 h hx r hf
    unfold fX9_unpack_80 at hf
    by_cases c1 : x2 ≤ x4
    · replace hf := ifp c1 hf
      replace hf := caE hf
      obtain ⟨v3, h2, e_h2, hf⟩ := hf
      have q_h2 := EFc (EF.rf (S := S_X9_unpack) _) (eX4_isThere F d hx e_h2) (by decide)
      have hx_h2 := q_h2.1
      have ef_h2 := q_h2.2
      by_cases c4 : v3 = 0
      · replace hf := ifp c4 hf
        cases hf
        exact ⟨hx_h2, ef_h2⟩
      · replace hf := ifn c4 hf
        replace hf := caE hf
        obtain ⟨v6, h5, e_h5, hf⟩ := hf
        have q_h5 := EFc ef_h2 (eX1_bytesOf F d hx_h2 e_h5) (by decide)
        have hx_h5 := q_h5.1
        have ef_h5 := q_h5.2
        by_cases c7 : v6 = x2
        · replace hf := ifp c7 hf
          replace hf := nnE hf
          obtain ⟨a9, e_a9, hf⟩ := hf
          replace hf := caE hf
          obtain ⟨v11, h10, e_h10, hf⟩ := hf
          have q_h10 := EFc ef_h5 (eX9_given F d hx_h5 e_h10) (by decide)
          have hx_h10 := q_h10.1
          have ef_h10 := q_h10.2
          cases hf
          exact ⟨hx_h10, ef_h10⟩
        · replace hf := ifn c7 hf
          cases hf
          exact ⟨hx_h5, ef_h5⟩
    · replace hf := ifn c1 hf
      replace hf := caE hf
      obtain ⟨v14, h13, e_h13, hf⟩ := hf
      have q_h13 := EFc (EF.rf (S := S_X9_unpack) _) (eX4_take F d hx e_h13) (by decide)
      have hx_h13 := q_h13.1
      have ef_h13 := q_h13.2
      replace hf := bnE hf
      obtain ⟨v15, e_v15, hf⟩ := hf
      replace hf := bnE hf
      obtain ⟨v16, e_v16, hf⟩ := hf
      exact EFj ef_h13 (ih _ _ _ _ _ _ hx_h13 hf)
set_option maxHeartbeats 4000000 in
theorem eX9_unpack (F d : Nat) {this : Nat} {p0 : Nat} {h : Hp} (hx : FXs h) {r : Option Nat × Hp} (hf : fX9_unpack F d this p0 h = some r) : FXs r.2 ∧ EF S_X9_unpack h r.2 := by
  unfold fX9_unpack at hf
  by_cases c1 : (gI h 901 this) = 0
  · replace hf := ifp c1 hf
    replace hf := caE hf
    obtain ⟨v3, h2, e_h2, hf⟩ := hf
    have q_h2 := EFc (EF.rf (S := S_X9_unpack) _) (eX4_takeNumber F d hx e_h2) (by decide)
    have hx_h2 := q_h2.1
    have ef_h2 := q_h2.2
    replace hf := caE hf
    obtain ⟨v5, h4, e_h4, hf⟩ := hf
    have q_h4 := EFc ef_h2 (eX1_outside F d hx_h2 e_h4) (by decide)
    have hx_h4 := q_h4.1
    have ef_h4 := q_h4.2
    by_cases c6 : v5 = 0
    · replace hf := ifp c6 hf
      replace hf := caE hf
      obtain ⟨v8, h7, e_h7, hf⟩ := hf
      have q_h7 := EFc ef_h4 (eX4_take F d hx_h4 e_h7) (by decide)
      have hx_h7 := q_h7.1
      have ef_h7 := q_h7.2
      replace hf := bnE hf
      obtain ⟨v9, e_v9, hf⟩ := hf
      exact EFj ef_h7 (eX9_unpack_80 F d F _ _ _ _ _ _ hx_h7 hf)
    · replace hf := ifn c6 hf
      cases hf
      exact ⟨hx_h4, ef_h4⟩
  · replace hf := ifn c1 hf
    replace hf := caE hf
    obtain ⟨v11, h10, e_h10, hf⟩ := hf
    have q_h10 := EFc (EF.rf (S := S_X9_unpack) _) (eX4_takeNumber F d hx e_h10) (by decide)
    have hx_h10 := q_h10.1
    have ef_h10 := q_h10.2
    replace hf := caE hf
    obtain ⟨v13, h12, e_h12, hf⟩ := hf
    have q_h12 := EFc ef_h10 (eX4_isThere F d hx_h10 e_h12) (by decide)
    have hx_h12 := q_h12.1
    have ef_h12 := q_h12.2
    by_cases c14 : v13 = 0
    · replace hf := ifp c14 hf
      cases hf
      exact ⟨hx_h12, ef_h12⟩
    · replace hf := ifn c14 hf
      replace hf := caE hf
      obtain ⟨v16, h15, e_h15, hf⟩ := hf
      have q_h15 := EFc ef_h12 (eX9_isRight F d hx_h12 e_h15) (by decide)
      have hx_h15 := q_h15.1
      have ef_h15 := q_h15.2
      by_cases c17 : v16 = 0
      · replace hf := ifp c17 hf
        cases hf
        exact ⟨hx_h15, ef_h15⟩
      · replace hf := ifn c17 hf
        replace hf := nnE hf
        obtain ⟨a19, e_a19, hf⟩ := hf
        replace hf := caE hf
        obtain ⟨v21, h20, e_h20, hf⟩ := hf
        have q_h20 := EFc ef_h15 (eX9_given F d hx_h15 e_h20) (by decide)
        have hx_h20 := q_h20.1
        have ef_h20 := q_h20.2
        cases hf
        exact ⟨hx_h20, ef_h20⟩
abbrev S_X9_writeContent : SS := ([501], [], [500], [], [])
set_option maxHeartbeats 4000000 in
theorem eX9_writeContent (F d : Nat) {this : Nat} {p0 : Nat} {p1 : Nat} {h : Hp} (hx : FXs h) {r : Hp} (hf : fX9_writeContent F d this p0 p1 h = some r) : FXs r ∧ EF S_X9_writeContent h r := by
  unfold fX9_writeContent at hf
  by_cases c1 : (gI h 900 this) = 1
  · replace hf := ifp c1 hf
    replace hf := cvE hf
    obtain ⟨h5, e_h5, hf⟩ := hf
    have q_h5 := EFc (EF.rf (S := S_X9_writeContent) _) (eX5_add F d hx e_h5) (by decide)
    have hx_h5 := q_h5.1
    have ef_h5 := q_h5.2
    cases hf
    exact ⟨hx_h5, ef_h5⟩
  · replace hf := ifn c1 hf
    by_cases c2 : (gI h 900 this) = 5
    · replace hf := ifp c2 hf
      cases hf
      exact ⟨hx, (EF.rf (S := S_X9_writeContent) _)⟩
    · replace hf := ifn c2 hf
      replace hf := cvE hf
      obtain ⟨h3, e_h3, hf⟩ := hf
      have q_h3 := EFc (EF.rf (S := S_X9_writeContent) _) (eX5_putInt F d hx e_h3) (by decide)
      have hx_h3 := q_h3.1
      have ef_h3 := q_h3.2
      cases hf
      exact ⟨hx_h3, ef_h3⟩
abbrev S_X13_add : SS := ([304, 1701], [], [302], [], [])
set_option maxHeartbeats 4000000 in
theorem eX13_add (F d : Nat) {p0 : Nat} {p1 : Nat} {p2 : Int32} {h : Hp} (hx : FXs h) {r : Hp} (hf : fX13_add F d p0 p1 p2 h = some r) : FXs r ∧ EF S_X13_add h r := by
  unfold fX13_add at hf
  replace hf := nnE hf
  obtain ⟨a2, e_a2, hf⟩ := hf
  have sa_a2 := hx 302 _ _ e_a2
  replace hf := bnE hf
  obtain ⟨v3, e_v3, hf⟩ := hf
  replace hf := bnE hf
  obtain ⟨h4, e_h4, hf⟩ := hf
  have hx_h4 := FX_sI hx e_h4
  have ef_h4 := EF_sI (EF.rf (S := S_X13_add) _) e_h4 (by decide)
  replace hf := ckE hf
  obtain ⟨c5, hf⟩ := hf
  replace hf := bnE hf
  obtain ⟨h6, e_h6, hf⟩ := hf
  have hx_h6 := FX_sA hx_h4 e_h6
  have ef_h6 := EF_sA ef_h4 e_h6 (f := 302) (by decide) sa_a2
  replace hf := bnE hf
  obtain ⟨h7, e_h7, hf⟩ := hf
  have hx_h7 := FX_sI hx_h6 e_h7
  have ef_h7 := EF_sI ef_h6 e_h7 (by decide)
  cases hf
  exact ⟨hx_h7, ef_h7⟩
abbrev S_X13_content : SS := ([], [], [], [], [])
set_option maxHeartbeats 4000000 in
theorem eX13_content (F d : Nat) {this : Nat} {p0 : Nat} {h : Hp} (hx : FXs h) {r : Int32 × Hp} (hf : fX13_content F d this p0 h = some r) : FXs r.2 ∧ EF S_X13_content h r.2 := by
  unfold fX13_content at hf
  cases hf
  exact ⟨hx, (EF.rf (S := S_X13_content) _)⟩
abbrev S_X13_writeContent : SS := ([501], [], [500], [], [])
set_option maxHeartbeats 4000000 in
theorem eX13_writeContent_2 (F d : Nat) : ∀ (n : Nat) (x1 : Nat) (x2 : Nat) (x3 : Int32) (h : Hp) (hx : FXs h) {r : Hp}, fX13_writeContent_2 F d n x1 x2 x3 h = some r → FXs r ∧ EF S_X13_writeContent h r := by
  intro n
  induction n with
  | zero => intro _ _ _ _ _ r hf; cases hf
  | succ n ih =>
    intro x1 x2 x3 h hx r hf
    unfold fX13_writeContent_2 at hf
    by_cases c1 : (gI h 1701 x1) ≤ x3
    · replace hf := ifp c1 hf
      cases hf
      exact ⟨hx, (EF.rf (S := S_X13_writeContent) _)⟩
    · replace hf := ifn c1 hf
      replace hf := nnE hf
      obtain ⟨a3, e_a3, hf⟩ := hf
      replace hf := nnE hf
      obtain ⟨a5, e_a5, hf⟩ := hf
      have sa_a5 := hx 302 _ _ e_a5
      replace hf := ckE hf
      obtain ⟨c6, hf⟩ := hf
      replace hf := cvE hf
      obtain ⟨h7, e_h7, hf⟩ := hf
      have q_h7 := EFc (EF.rf (S := S_X13_writeContent) _) (eX5_add F d hx e_h7) (by decide)
      have hx_h7 := q_h7.1
      have ef_h7 := q_h7.2
      replace hf := bnE hf
      obtain ⟨v9, e_v9, hf⟩ := hf
      exact EFj ef_h7 (ih _ _ _ _ hx_h7 hf)
set_option maxHeartbeats 4000000 in
theorem eX13_writeContent (F d : Nat) {this : Nat} {p0 : Nat} {p1 : Nat} {h : Hp} (hx : FXs h) {r : Hp} (hf : fX13_writeContent F d this p0 p1 h = some r) : FXs r ∧ EF S_X13_writeContent h r := by
  unfold fX13_writeContent at hf
  exact EFj (EF.rf (S := S_X13_writeContent) _) (eX13_writeContent_2 F d F _ _ _ _ hx hf)
abbrev S_X14_isShort : SS := ([], [], [], [], [])
set_option maxHeartbeats 4000000 in
theorem eX14_isShort (F d : Nat) {this : Nat} {h : Hp} (hx : FXs h) {r : Int32 × Hp} (hf : fX14_isShort F d this h = some r) : FXs r.2 ∧ EF S_X14_isShort h r.2 := by
  unfold fX14_isShort at hf
  by_cases c1 : (gI h 1400 this) = 0
  · replace hf := ifp c1 hf
    cases hf
    exact ⟨hx, (EF.rf (S := S_X14_isShort) _)⟩
  · replace hf := ifn c1 hf
    by_cases c2 : (gI h 1401 this) = (gI h 1402 this)
    · replace hf := ifp c2 hf
      by_cases c3 : 2 < (gI h 1402 this)
      · replace hf := ifp c3 hf
        cases hf
        exact ⟨hx, (EF.rf (S := S_X14_isShort) _)⟩
      · replace hf := ifn c3 hf
        cases hf
        exact ⟨hx, (EF.rf (S := S_X14_isShort) _)⟩
    · replace hf := ifn c2 hf
      cases hf
      exact ⟨hx, (EF.rf (S := S_X14_isShort) _)⟩
abbrev S_X14_pack : SS := ([501], [], [500], [], [])
set_option maxHeartbeats 4000000 in
theorem eX14_pack_34 (F d : Nat) (s0 : Nat) (s1 : Int32) (s2 : Int32) (s3 : Int32) (h : Hp) (hx : FXs h) {r : Hp} (hf : fX14_pack_34 F d s0 s1 s2 s3 h = some r) : FXs r ∧ EF S_X14_pack h r := by
  unfold fX14_pack_34 at hf
  replace hf := cvE hf
  obtain ⟨h1, e_h1, hf⟩ := hf
  have q_h1 := EFc (EF.rf (S := S_X14_pack) _) (eX5_putNumber F d hx e_h1) (by decide)
  have hx_h1 := q_h1.1
  have ef_h1 := q_h1.2
  cases hf
  exact ⟨hx_h1, ef_h1⟩
set_option maxHeartbeats 4000000 in
theorem eX14_pack_17 (F d : Nat) (this : Nat) (s0 : Nat) (s1 : Int32) (s2 : Int32) (h : Hp) (hx : FXs h) {r : Hp} (hf : fX14_pack_17 F d this s0 s1 s2 h = some r) : FXs r ∧ EF S_X14_pack h r := by
  unfold fX14_pack_17 at hf
  by_cases c1 : (gI h 1400 this) = 0
  · replace hf := ifp c1 hf
    exact EFj (EF.rf (S := S_X14_pack) _) (eX14_pack_34 F d _ _ _ _ _ hx hf)
  · replace hf := ifn c1 hf
    exact EFj (EF.rf (S := S_X14_pack) _) (eX14_pack_34 F d _ _ _ _ _ hx hf)
set_option maxHeartbeats 4000000 in
theorem eX14_pack (F d : Nat) {this : Nat} {p0 : Int32} {p1 : Nat} {h : Hp} (hx : FXs h) {r : Hp} (hf : fX14_pack F d this p0 p1 h = some r) : FXs r ∧ EF S_X14_pack h r := by
  unfold fX14_pack at hf
  by_cases c1 : (gI h 1400 this) = 0
  · replace hf := ifp c1 hf
    exact EFj (EF.rf (S := S_X14_pack) _) (eX14_pack_17 F d _ _ _ _ _ hx hf)
  · replace hf := ifn c1 hf
    exact EFj (EF.rf (S := S_X14_pack) _) (eX14_pack_17 F d _ _ _ _ _ hx hf)
abbrev S_X13_pack : SS := ([501], [], [500], [], [])
set_option maxHeartbeats 4000000 in
theorem eX13_pack_33 (F d : Nat) (this : Nat) (x1 : Nat) (x2 : Nat) (h : Hp) (hx : FXs h) {r : Hp} (hf : fX13_pack_33 F d this x1 x2 h = some r) : FXs r ∧ EF S_X13_pack h r := by
  unfold fX13_pack_33 at hf
  replace hf := cvE hf
  obtain ⟨h1, e_h1, hf⟩ := hf
  have q_h1 := EFc (EF.rf (S := S_X13_pack) _) (eX13_writeContent F d hx e_h1) (by decide)
  have hx_h1 := q_h1.1
  have ef_h1 := q_h1.2
  cases hf
  exact ⟨hx_h1, ef_h1⟩
set_option maxHeartbeats 4000000 in
theorem eX13_pack (F d : Nat) {this : Nat} {p0 : Nat} {p1 : Nat} {h : Hp} (hx : FXs h) {r : Hp} (hf : fX13_pack F d this p0 p1 h = some r) : FXs r ∧ EF S_X13_pack h r := by
  unfold fX13_pack at hf
  replace hf := nnE hf
  obtain ⟨a2, e_a2, hf⟩ := hf
  replace hf := cvE hf
  obtain ⟨h3, e_h3, hf⟩ := hf
  have q_h3 := EFc (EF.rf (S := S_X13_pack) _) (eX14_pack F d hx e_h3) (by decide)
  have hx_h3 := q_h3.1
  have ef_h3 := q_h3.2
  by_cases c5 : (gI h3 1701 p0) ≤ 0
  · replace hf := ifp c5 hf
    exact EFj ef_h3 (eX13_pack_33 F d _ _ _ _ hx_h3 hf)
  · replace hf := ifn c5 hf
    replace hf := nnE hf
    obtain ⟨a7, e_a7, hf⟩ := hf
    replace hf := caE hf
    obtain ⟨v9, h8, e_h8, hf⟩ := hf
    have q_h8 := EFc ef_h3 (eX14_isShort F d hx_h3 e_h8) (by decide)
    have hx_h8 := q_h8.1
    have ef_h8 := q_h8.2
    by_cases c10 : v9 = 0
    · replace hf := ifp c10 hf
      replace hf := cvE hf
      obtain ⟨h11, e_h11, hf⟩ := hf
      have q_h11 := EFc ef_h8 (eX5_align F d hx_h8 e_h11) (by decide)
      have hx_h11 := q_h11.1
      have ef_h11 := q_h11.2
      exact EFj ef_h11 (eX13_pack_33 F d _ _ _ _ hx_h11 hf)
    · replace hf := ifn c10 hf
      exact EFj ef_h8 (eX13_pack_33 F d _ _ _ _ hx_h8 hf)
abbrev S_X14_holds : SS := ([], [], [], [], [])
set_option maxHeartbeats 4000000 in
theorem eX14_holds (F d : Nat) {this : Nat} {p0 : Int32} {h : Hp} (hx : FXs h) {r : Int32 × Hp} (hf : fX14_holds F d this p0 h = some r) : FXs r.2 ∧ EF S_X14_holds h r.2 := by
  unfold fX14_holds at hf
  by_cases c1 : (gI h 1400 this) = 0
  · replace hf := ifp c1 hf
    by_cases c2 : 128 ≤ p0
    · replace hf := ifp c2 hf
      cases hf
      exact ⟨hx, (EF.rf (S := S_X14_holds) _)⟩
    · replace hf := ifn c2 hf
      cases hf
      exact ⟨hx, (EF.rf (S := S_X14_holds) _)⟩
  · replace hf := ifn c1 hf
    replace hf := caE hf
    obtain ⟨v4, h3, e_h3, hf⟩ := hf
    have q_h3 := EFc (EF.rf (S := S_X14_holds) _) (eX1_outside F d hx e_h3) (by decide)
    have hx_h3 := q_h3.1
    have ef_h3 := q_h3.2
    by_cases c5 : v4 = 0
    · replace hf := ifp c5 hf
      cases hf
      exact ⟨hx_h3, ef_h3⟩
    · replace hf := ifn c5 hf
      cases hf
      exact ⟨hx_h3, ef_h3⟩
abbrev S_X13_readContent : SS := ([303, 304, 401, 1700, 1701, 1702, 1703], [1706, 1707, 1708], [302], [300], [13])
set_option maxHeartbeats 4000000 in
theorem eX13_readContent_28 (F d : Nat) : ∀ (n : Nat) (x1 : Nat) (x2 : Int32) (x3 : Option Nat) (x4 : Int32) (h : Hp) (hx : FXs h) {r : Option Nat × Hp}, fX13_readContent_28 F d n x1 x2 x3 x4 h = some r → FXs r.2 ∧ EF S_X13_readContent h r.2 := by
  intro n
  induction n with
  | zero => intro _ _ _ _ _ _ r hf; cases hf
  | succ n ih =>
    intro x1 x2 x3 x4 h hx r hf
    unfold fX13_readContent_28 at hf
    by_cases c1 : x2 ≤ x4
    · replace hf := ifp c1 hf
      cases hf
      exact ⟨hx, (EF.rf (S := S_X13_readContent) _)⟩
    · replace hf := ifn c1 hf
      rcases nd_on x3 with e_a2 | ⟨a2, e_a2⟩
      · replace hf := ocN e_a2 hf
        subst e_a2
        cases hf
        exact ⟨hx, (EF.rf (S := S_X13_readContent) _)⟩
      · replace hf := ocS e_a2 hf
        subst e_a2
        replace hf := nnE hf
        obtain ⟨a4, e_a4, hf⟩ := hf
        replace hf := caE hf
        obtain ⟨v6, h5, e_h5, hf⟩ := hf
        have q_h5 := EFc (EF.rf (S := S_X13_readContent) _) (eX4_next F d hx e_h5) (by decide)
        have hx_h5 := q_h5.1
        have ef_h5 := q_h5.2
        replace hf := cvE hf
        obtain ⟨h7, e_h7, hf⟩ := hf
        have q_h7 := EFc ef_h5 (eX13_add F d hx_h5 e_h7) (by decide)
        have hx_h7 := q_h7.1
        have ef_h7 := q_h7.2
        replace hf := bnE hf
        obtain ⟨v9, e_v9, hf⟩ := hf
        exact EFj ef_h7 (ih _ _ _ _ _ hx_h7 hf)
set_option maxHeartbeats 4000000 in
theorem eX13_readContent_24 (F d : Nat) (x1 : Nat) (x2 : Int32) (s0 : Option Nat) (h : Hp) (hx : FXs h) {r : Option Nat × Hp} (hf : fX13_readContent_24 F d x1 x2 s0 h = some r) : FXs r.2 ∧ EF S_X13_readContent h r.2 := by
  unfold fX13_readContent_24 at hf
  exact EFj (EF.rf (S := S_X13_readContent) _) (eX13_readContent_28 F d F _ _ _ _ _ hx hf)
set_option maxHeartbeats 4000000 in
theorem eX13_readContent (F d : Nat) {this : Nat} {p0 : Nat} {p1 : Int32} {h : Hp} (hx : FXs h) {r : Option Nat × Hp} (hf : fX13_readContent F d this p0 p1 h = some r) : FXs r.2 ∧ EF S_X13_readContent h r.2 := by
  unfold fX13_readContent at hf
  replace hf := nnE hf
  obtain ⟨a2, e_a2, hf⟩ := hf
  replace hf := caE hf
  obtain ⟨v4, h3, e_h3, hf⟩ := hf
  have q_h3 := EFc (EF.rf (S := S_X13_readContent) _) (eX14_holds F d hx e_h3) (by decide)
  have hx_h3 := q_h3.1
  have ef_h3 := q_h3.2
  by_cases c5 : v4 = 0
  · replace hf := ifp c5 hf
    exact EFj ef_h3 (eX13_readContent_24 F d _ _ _ _ hx_h3 hf)
  · replace hf := ifn c5 hf
    replace hf := nnE hf
    obtain ⟨a7, e_a7, hf⟩ := hf
    replace hf := caE hf
    obtain ⟨v9, h8, e_h8, hf⟩ := hf
    have q_h8 := EFc ef_h3 (eX3_make F d hx_h3 e_h8) (by decide)
    have hx_h8 := q_h8.1
    have ef_h8 := q_h8.2
    exact EFj ef_h8 (eX13_readContent_24 F d _ _ _ _ hx_h8 hf)
abbrev S_X14_unpack : SS := ([403], [], [], [], [])
set_option maxHeartbeats 4000000 in
theorem eX14_unpack (F d : Nat) {this : Nat} {p0 : Nat} {h : Hp} (hx : FXs h) {r : Int32 × Hp} (hf : fX14_unpack F d this p0 h = some r) : FXs r.2 ∧ EF S_X14_unpack h r.2 := by
  unfold fX14_unpack at hf
  by_cases c1 : (gI h 1400 this) = 0
  · replace hf := ifp c1 hf
    replace hf := caE hf
    obtain ⟨v3, h2, e_h2, hf⟩ := hf
    have q_h2 := EFc (EF.rf (S := S_X14_unpack) _) (eX4_takeNumber F d hx e_h2) (by decide)
    have hx_h2 := q_h2.1
    have ef_h2 := q_h2.2
    cases hf
    exact ⟨hx_h2, ef_h2⟩
  · replace hf := ifn c1 hf
    replace hf := caE hf
    obtain ⟨v5, h4, e_h4, hf⟩ := hf
    have q_h4 := EFc (EF.rf (S := S_X14_unpack) _) (eX4_takeNumber F d hx e_h4) (by decide)
    have hx_h4 := q_h4.1
    have ef_h4 := q_h4.2
    cases hf
    exact ⟨hx_h4, ef_h4⟩
abbrev S_X13_unpack : SS := ([303, 304, 403, 1700, 1701, 1702, 1703], [1706, 1707, 1708], [302], [300], [13])
set_option maxHeartbeats 4000000 in
theorem eX13_unpack_83 (F d : Nat) : ∀ (n : Nat) (x1 : Nat) (x2 : Int32) (x3 : Option Nat) (x4 : Int32) (h : Hp) (hx : FXs h) {r : Option Nat × Hp}, fX13_unpack_83 F d n x1 x2 x3 x4 h = some r → FXs r.2 ∧ EF S_X13_unpack h r.2 := by
  intro n
  induction n with
  | zero => intro _ _ _ _ _ _ r hf; cases hf
  | succ n ih =>
    intro x1 x2 x3 x4 h hx r hf
    unfold fX13_unpack_83 at hf
    by_cases c1 : x2 ≤ x4
    · replace hf := ifp c1 hf
      cases hf
      exact ⟨hx, (EF.rf (S := S_X13_unpack) _)⟩
    · replace hf := ifn c1 hf
      rcases nd_on x3 with e_a2 | ⟨a2, e_a2⟩
      · replace hf := ocN e_a2 hf
        subst e_a2
        cases hf
        exact ⟨hx, (EF.rf (S := S_X13_unpack) _)⟩
      · replace hf := ocS e_a2 hf
        subst e_a2
        replace hf := nnE hf
        obtain ⟨a4, e_a4, hf⟩ := hf
        replace hf := caE hf
        obtain ⟨v6, h5, e_h5, hf⟩ := hf
        have q_h5 := EFc (EF.rf (S := S_X13_unpack) _) (eX4_take F d hx e_h5) (by decide)
        have hx_h5 := q_h5.1
        have ef_h5 := q_h5.2
        replace hf := cvE hf
        obtain ⟨h7, e_h7, hf⟩ := hf
        have q_h7 := EFc ef_h5 (eX13_add F d hx_h5 e_h7) (by decide)
        have hx_h7 := q_h7.1
        have ef_h7 := q_h7.2
        replace hf := bnE hf
        obtain ⟨v9, e_v9, hf⟩ := hf
        exact EFj ef_h7 (ih _ _ _ _ _ hx_h7 hf)
set_option maxHeartbeats 4000000 in
theorem eX13_unpack_79 (F d : Nat) (x1 : Nat) (x2 : Int32) (s0 : Option Nat) (h : Hp) (hx : FXs h) {r : Option Nat × Hp} (hf : fX13_unpack_79 F d x1 x2 s0 h = some r) : FXs r.2 ∧ EF S_X13_unpack h r.2 := by
  unfold fX13_unpack_79 at hf
  exact EFj (EF.rf (S := S_X13_unpack) _) (eX13_unpack_83 F d F _ _ _ _ _ hx hf)
set_option maxHeartbeats 4000000 in
theorem eX13_unpack_47 (F d : Nat) (x1 : Nat) (x2 : Int32) (h : Hp) (hx : FXs h) {r : Option Nat × Hp} (hf : fX13_unpack_47 F d x1 x2 h = some r) : FXs r.2 ∧ EF S_X13_unpack h r.2 := by
  unfold fX13_unpack_47 at hf
  by_cases c1 : ((gI h 403 x1) + (8 * x2)) ≤ (8 * (gI h 402 x1))
  · replace hf := ifp c1 hf
    replace hf := nnE hf
    obtain ⟨a3, e_a3, hf⟩ := hf
    replace hf := caE hf
    obtain ⟨v5, h4, e_h4, hf⟩ := hf
    have q_h4 := EFc (EF.rf (S := S_X13_unpack) _) (eX3_make F d hx e_h4) (by decide)
    have hx_h4 := q_h4.1
    have ef_h4 := q_h4.2
    exact EFj ef_h4 (eX13_unpack_79 F d _ _ _ _ hx_h4 hf)
  · replace hf := ifn c1 hf
    exact EFj (EF.rf (S := S_X13_unpack) _) (eX13_unpack_79 F d _ _ _ _ hx hf)
set_option maxHeartbeats 4000000 in
theorem eX13_unpack (F d : Nat) {this : Nat} {p0 : Nat} {h : Hp} (hx : FXs h) {r : Option Nat × Hp} (hf : fX13_unpack F d this p0 h = some r) : FXs r.2 ∧ EF S_X13_unpack h r.2 := by
  unfold fX13_unpack at hf
  replace hf := nnE hf
  obtain ⟨a2, e_a2, hf⟩ := hf
  replace hf := caE hf
  obtain ⟨v4, h3, e_h3, hf⟩ := hf
  have q_h3 := EFc (EF.rf (S := S_X13_unpack) _) (eX14_unpack F d hx e_h3) (by decide)
  have hx_h3 := q_h3.1
  have ef_h3 := q_h3.2
  replace hf := caE hf
  obtain ⟨v6, h5, e_h5, hf⟩ := hf
  have q_h5 := EFc ef_h3 (eX4_isThere F d hx_h3 e_h5) (by decide)
  have hx_h5 := q_h5.1
  have ef_h5 := q_h5.2
  by_cases c7 : v6 = 0
  · replace hf := ifp c7 hf
    cases hf
    exact ⟨hx_h5, ef_h5⟩
  · replace hf := ifn c7 hf
    replace hf := nnE hf
    obtain ⟨a9, e_a9, hf⟩ := hf
    replace hf := caE hf
    obtain ⟨v11, h10, e_h10, hf⟩ := hf
    have q_h10 := EFc ef_h5 (eX14_holds F d hx_h5 e_h10) (by decide)
    have hx_h10 := q_h10.1
    have ef_h10 := q_h10.2
    by_cases c12 : v11 = 0
    · replace hf := ifp c12 hf
      cases hf
      exact ⟨hx_h10, ef_h10⟩
    · replace hf := ifn c12 hf
      by_cases c13 : v4 ≤ 0
      · replace hf := ifp c13 hf
        exact EFj ef_h10 (eX13_unpack_47 F d _ _ _ hx_h10 hf)
      · replace hf := ifn c13 hf
        replace hf := nnE hf
        obtain ⟨a15, e_a15, hf⟩ := hf
        replace hf := caE hf
        obtain ⟨v17, h16, e_h16, hf⟩ := hf
        have q_h16 := EFc ef_h10 (eX14_isShort F d hx_h10 e_h16) (by decide)
        have hx_h16 := q_h16.1
        have ef_h16 := q_h16.2
        by_cases c18 : v17 = 0
        · replace hf := ifp c18 hf
          replace hf := cvE hf
          obtain ⟨h19, e_h19, hf⟩ := hf
          have q_h19 := EFc ef_h16 (eX4_align F d hx_h16 e_h19) (by decide)
          have hx_h19 := q_h19.1
          have ef_h19 := q_h19.2
          exact EFj ef_h19 (eX13_unpack_47 F d _ _ _ hx_h19 hf)
        · replace hf := ifn c18 hf
          exact EFj ef_h16 (eX13_unpack_47 F d _ _ _ hx_h16 hf)
abbrev S_X17_component : SS := ([], [], [], [], [])
set_option maxHeartbeats 4000000 in
theorem eX17_component_5 (F d : Nat) : ∀ (n : Nat) (x1 : Int32) (x2 : Option Nat) (h : Hp) (hx : FXs h) {r : Option Nat × Hp}, fX17_component_5 F d n x1 x2 h = some r → FXs r.2 ∧ EF S_X17_component h r.2 := by
  intro n
  induction n with
  | zero => intro _ _ _ _ r hf; cases hf
  | succ n ih =>
    intro x1 x2 h hx r hf
    unfold fX17_component_5 at hf
    rcases nd_on x2 with e_a1 | ⟨a1, e_a1⟩
    · replace hf := ocN e_a1 hf
      subst e_a1
      cases hf
      exact ⟨hx, (EF.rf (S := S_X17_component) _)⟩
    · replace hf := ocS e_a1 hf
      subst e_a1
      by_cases c2 : (gI h 1703 a1) = x1
      · replace hf := ifp c2 hf
        cases hf
        exact ⟨hx, (EF.rf (S := S_X17_component) _)⟩
      · replace hf := ifn c2 hf
        replace hf := bnE hf
        obtain ⟨o4, e_o4, hf⟩ := hf
        exact EFj (EF.rf (S := S_X17_component) _) (ih _ _ _ hx hf)
set_option maxHeartbeats 4000000 in
theorem eX17_component (F d : Nat) {this : Nat} {p0 : Int32} {h : Hp} (hx : FXs h) {r : Option Nat × Hp} (hf : fX17_component F d this p0 h = some r) : FXs r.2 ∧ EF S_X17_component h r.2 := by
  unfold fX17_component at hf
  replace hf := bnE hf
  obtain ⟨o2, e_o2, hf⟩ := hf
  exact EFj (EF.rf (S := S_X17_component) _) (eX17_component_5 F d F _ _ _ hx hf)
abbrev S_X16_given : SS := ([303, 1700, 1701, 1702, 1703], [1706, 1707, 1708], [], [300], [13])
set_option maxHeartbeats 4000000 in
theorem eX16_given (F d : Nat) (R_given : Nat → Nat → Int32 → Hp → Option (Option Nat × Hp)) (hE_given : ∀ {b : Nat} {p0 : Nat} {p1 : Int32} {h : Hp} (_ : FXs h) {r : Option Nat × Hp}, R_given b p0 p1 h = some r → FXs r.2 ∧ EF SV_given h r.2) {this : Nat} {p0 : Nat} {p1 : Int32} {h : Hp} (hx : FXs h) {r : Option Nat × Hp} (hf : fX16_given F d R_given this p0 p1 h = some r) : FXs r.2 ∧ EF S_X16_given h r.2 := by
  unfold fX16_given at hf
  replace hf := nnE hf
  obtain ⟨a2, e_a2, hf⟩ := hf
  replace hf := caE hf
  obtain ⟨v4, h3, e_h3, hf⟩ := hf
  have q_h3 := EFc (EF.rf (S := S_X16_given) _) (hE_given hx e_h3) (by decide)
  have hx_h3 := q_h3.1
  have ef_h3 := q_h3.2
  cases hf
  exact ⟨hx_h3, ef_h3⟩
abbrev S_X7_given : SS := ([], [], [], [], [])
set_option maxHeartbeats 4000000 in
theorem eX7_given (F d : Nat) {this : Nat} {p0 : Nat} {p1 : Int32} {h : Hp} (hx : FXs h) {r : Option Nat × Hp} (hf : fX7_given F d this p0 p1 h = some r) : FXs r.2 ∧ EF S_X7_given h r.2 := by
  unfold fX7_given at hf
  cases hf
  exact ⟨hx, (EF.rf (S := S_X7_given) _)⟩
set_option maxHeartbeats 4000000 in
theorem ev_given (F : Nat) : ∀ (d : Nat) {b : Nat} {p0 : Nat} {p1 : Int32} {h : Hp} (_ : FXs h) {r : Option Nat × Hp}, v_given F d b p0 p1 h = some r → FXs r.2 ∧ EF SV_given h r.2 := by
  intro d
  induction d with
  | zero => intro b p0 p1 h hx r hf; cases hf
  | succ d ih =>
    intro b p0 p1 h hx r hf
    unfold v_given at hf
    by_cases e_ : nd_Kd b = 6
    · replace hf := ifp e_ hf
      exact EFc (EF.rf (S := SV_given) _) (eX9_given F d hx hf) (by decide)
    replace hf := ifn e_ hf
    by_cases e_ : nd_Kd b = 7
    · replace hf := ifp e_ hf
      exact EFc (EF.rf (S := SV_given) _) (eX7_given F d hx hf) (by decide)
    replace hf := ifn e_ hf
    by_cases e_ : nd_Kd b = 8
    · replace hf := ifp e_ hf
      exact EFc (EF.rf (S := SV_given) _) (eX7_given F d hx hf) (by decide)
    replace hf := ifn e_ hf
    by_cases e_ : nd_Kd b = 9
    · replace hf := ifp e_ hf
      exact EFc (EF.rf (S := SV_given) _) (eX7_given F d hx hf) (by decide)
    replace hf := ifn e_ hf
    by_cases e_ : nd_Kd b = 11
    · replace hf := ifp e_ hf
      exact EFc (EF.rf (S := SV_given) _) (eX7_given F d hx hf) (by decide)
    replace hf := ifn e_ hf
    by_cases e_ : nd_Kd b = 12
    · replace hf := ifp e_ hf
      exact EFc (EF.rf (S := SV_given) _) (eX16_given F d (v_given F d) ih hx hf) (by decide)
    replace hf := ifn e_ hf
    cases hf
abbrev S_X11_add : SS := ([303, 1700, 1701, 1702, 1703], [1706, 1707, 1708], [], [300], [13])
set_option maxHeartbeats 4000000 in
theorem eX11_add_40 (F d : Nat) (this : Nat) (x1 : Nat) (x2 : Int32) (x4 : Int32) (s0 : Option Nat) (h : Hp) (hx : FXs h) {r : Int32 × Hp} (hf : fX11_add_40 F d this x1 x2 x4 s0 h = some r) : FXs r.2 ∧ EF S_X11_add h r.2 := by
  unfold fX11_add_40 at hf
  rcases nd_on s0 with e_a1 | ⟨a1, e_a1⟩
  · replace hf := ocN e_a1 hf
    subst e_a1
    by_cases c2 : x4 = 0
    · replace hf := ifp c2 hf
      replace hf := nnE hf
      obtain ⟨a4, e_a4, hf⟩ := hf
      have sa_a4 := hx 1100 _ _ e_a4
      replace hf := ckE hf
      obtain ⟨c5, hf⟩ := hf
      by_cases c6 : (gA h a4 (Int32.toNatClampNeg x2)) = 1
      · replace hf := ifp c6 hf
        cases hf
        exact ⟨hx, (EF.rf (S := S_X11_add) _)⟩
      · replace hf := ifn c6 hf
        cases hf
        exact ⟨hx, (EF.rf (S := S_X11_add) _)⟩
    · replace hf := ifn c2 hf
      cases hf
      exact ⟨hx, (EF.rf (S := S_X11_add) _)⟩
  · replace hf := ocS e_a1 hf
    subst e_a1
    replace hf := cvE hf
    obtain ⟨h7, e_h7, hf⟩ := hf
    have q_h7 := EFc (EF.rf (S := S_X11_add) _) (eX17_add F d hx e_h7) (by decide)
    have hx_h7 := q_h7.1
    have ef_h7 := q_h7.2
    replace hf := bnE hf
    obtain ⟨h9, e_h9, hf⟩ := hf
    have hx_h9 := FX_sI hx_h7 e_h9
    have ef_h9 := EF_sI ef_h7 e_h9 (by decide)
    cases hf
    exact ⟨hx_h9, ef_h9⟩
set_option maxHeartbeats 4000000 in
theorem eX11_add (F d : Nat) {this : Nat} {p0 : Nat} {p1 : Int32} {p2 : Option Nat} {p3 : Int32} {p4 : Nat} {h : Hp} (hx : FXs h) {r : Int32 × Hp} (hf : fX11_add F d this p0 p1 p2 p3 p4 h = some r) : FXs r.2 ∧ EF S_X11_add h r.2 := by
  unfold fX11_add at hf
  by_cases c1 : p3 = 0
  · replace hf := ifp c1 hf
    replace hf := nnE hf
    obtain ⟨a3, e_a3, hf⟩ := hf
    have sa_a3 := hx 1100 _ _ e_a3
    replace hf := ckE hf
    obtain ⟨c4, hf⟩ := hf
    by_cases c5 : (gA h a3 (Int32.toNatClampNeg p1)) = 2
    · replace hf := ifp c5 hf
      replace hf := nnE hf
      obtain ⟨a7, e_a7, hf⟩ := hf
      have sa_a7 := hx 1000 _ _ e_a7
      replace hf := ckE hf
      obtain ⟨c8, hf⟩ := hf
      replace hf := bnE hf
      obtain ⟨o10, e_o10, hf⟩ := hf
      replace hf := nnE hf
      obtain ⟨a12, e_a12, hf⟩ := hf
      have sa_a12 := hx 1101 _ _ e_a12
      replace hf := ckE hf
      obtain ⟨c13, hf⟩ := hf
      replace hf := nnE hf
      obtain ⟨a14, e_a14, hf⟩ := hf
      subst e_a14
      replace hf := caE hf
      obtain ⟨v16, h15, e_h15, hf⟩ := hf
      have q_h15 := EFc (EF.rf (S := S_X11_add) _) (ev_given F d hx e_h15) (by decide)
      have hx_h15 := q_h15.1
      have ef_h15 := q_h15.2
      exact EFj ef_h15 (eX11_add_40 F d _ _ _ _ _ _ hx_h15 hf)
    · replace hf := ifn c5 hf
      exact EFj (EF.rf (S := S_X11_add) _) (eX11_add_40 F d _ _ _ _ _ _ hx hf)
  · replace hf := ifn c1 hf
    exact EFj (EF.rf (S := S_X11_add) _) (eX11_add_40 F d _ _ _ _ _ _ hx hf)
abbrev S_X11_isWritten : SS := ([], [], [], [], [])
set_option maxHeartbeats 4000000 in
theorem eX11_isWritten (F d : Nat) {this : Nat} {p0 : Nat} {p1 : Int32} {h : Hp} (hx : FXs h) {r : Int32 × Hp} (hf : fX11_isWritten F d this p0 p1 h = some r) : FXs r.2 ∧ EF S_X11_isWritten h r.2 := by
  unfold fX11_isWritten at hf
  replace hf := caE hf
  obtain ⟨v2, h1, e_h1, hf⟩ := hf
  have q_h1 := EFc (EF.rf (S := S_X11_isWritten) _) (eX17_component F d hx e_h1) (by decide)
  have hx_h1 := q_h1.1
  have ef_h1 := q_h1.2
  rcases nd_on v2 with e_a4 | ⟨a4, e_a4⟩
  · replace hf := ocN e_a4 hf
    subst e_a4
    cases hf
    exact ⟨hx_h1, ef_h1⟩
  · replace hf := ocS e_a4 hf
    subst e_a4
    replace hf := nnE hf
    obtain ⟨a6, e_a6, hf⟩ := hf
    have sa_a6 := hx_h1 1100 _ _ e_a6
    replace hf := ckE hf
    obtain ⟨c7, hf⟩ := hf
    by_cases c8 : (gA h1 a6 (Int32.toNatClampNeg p1)) = 2
    · replace hf := ifp c8 hf
      replace hf := nnE hf
      obtain ⟨a10, e_a10, hf⟩ := hf
      have sa_a10 := hx_h1 1101 _ _ e_a10
      replace hf := ckE hf
      obtain ⟨c11, hf⟩ := hf
      by_cases c12 : (gI h1 1701 a4) = (gA h1 a10 (Int32.toNatClampNeg p1))
      · replace hf := ifp c12 hf
        cases hf
        exact ⟨hx_h1, ef_h1⟩
      · replace hf := ifn c12 hf
        cases hf
        exact ⟨hx_h1, ef_h1⟩
    · replace hf := ifn c8 hf
      cases hf
      exact ⟨hx_h1, ef_h1⟩
abbrev S_X11_content : SS := ([], [], [], [], [])
set_option maxHeartbeats 4000000 in
theorem eX11_content_40 (F d : Nat) (R_size : Nat → Nat → Hp → Option (Int32 × Hp)) (hE_size : ∀ {b : Nat} {p0 : Nat} {h : Hp} (_ : FXs h) {r : Int32 × Hp}, R_size b p0 h = some r → FXs r.2 ∧ EF SV_size h r.2) (k_4 : Nat → Nat → Int32 → Int32 → Hp → Option (Int32 × Hp)) (hk_4 : ∀ (this : Nat) (x1 : Nat) (x2 : Int32) (x3 : Int32) (h : Hp) (hx : FXs h) {r : Int32 × Hp}, k_4 this x1 x2 x3 h = some r → FXs r.2 ∧ EF S_X11_content h r.2) (this : Nat) (x1 : Nat) (x3 : Int32) (s0 : Int32) (s1 : Int32) (h : Hp) (hx : FXs h) {r : Int32 × Hp} (hf : fX11_content_40 F d R_size k_4 this x1 x3 s0 s1 h = some r) : FXs r.2 ∧ EF S_X11_content h r.2 := by
  unfold fX11_content_40 at hf
  replace hf := bnE hf
  obtain ⟨v1, e_v1, hf⟩ := hf
  replace hf := bnE hf
  obtain ⟨v2, e_v2, hf⟩ := hf
  exact EFj (EF.rf (S := S_X11_content) _) (hk_4 _ _ _ _ _ hx hf)
set_option maxHeartbeats 4000000 in
theorem eX11_content_4 (F d : Nat) (R_size : Nat → Nat → Hp → Option (Int32 × Hp)) (hE_size : ∀ {b : Nat} {p0 : Nat} {h : Hp} (_ : FXs h) {r : Int32 × Hp}, R_size b p0 h = some r → FXs r.2 ∧ EF SV_size h r.2) : ∀ (n : Nat) (this : Nat) (x1 : Nat) (x2 : Int32) (x3 : Int32) (h : Hp) (hx : FXs h) {r : Int32 × Hp}, fX11_content_4 F d R_size n this x1 x2 x3 h = some r → FXs r.2 ∧ EF S_X11_content h r.2 := by
  intro n
  induction n with
  | zero => intro _ _ _ _ _ _ r hf; cases hf
  | succ n ih =>
    intro this x1 x2 x3 h hx r hf
    unfold fX11_content_4 at hf
    by_cases c1 : (gI h 1001 this) ≤ x3
    · replace hf := ifp c1 hf
      cases hf
      exact ⟨hx, (EF.rf (S := S_X11_content) _)⟩
    · replace hf := ifn c1 hf
      replace hf := caE hf
      obtain ⟨v3, h2, e_h2, hf⟩ := hf
      have q_h2 := EFc (EF.rf (S := S_X11_content) _) (eX11_isWritten F d hx e_h2) (by decide)
      have hx_h2 := q_h2.1
      have ef_h2 := q_h2.2
      by_cases c4 : v3 = 0
      · replace hf := ifp c4 hf
        exact EFj ef_h2 (eX11_content_40 F d R_size hE_size (fX11_content_4 F d R_size n) ih _ _ _ _ _ _ hx_h2 hf)
      · replace hf := ifn c4 hf
        replace hf := nnE hf
        obtain ⟨a6, e_a6, hf⟩ := hf
        have sa_a6 := hx_h2 1000 _ _ e_a6
        replace hf := ckE hf
        obtain ⟨c7, hf⟩ := hf
        replace hf := bnE hf
        obtain ⟨o9, e_o9, hf⟩ := hf
        replace hf := caE hf
        obtain ⟨v11, h10, e_h10, hf⟩ := hf
        have q_h10 := EFc ef_h2 (eX17_component F d hx_h2 e_h10) (by decide)
        have hx_h10 := q_h10.1
        have ef_h10 := q_h10.2
        replace hf := nnE hf
        obtain ⟨a13, e_a13, hf⟩ := hf
        subst e_a13
        replace hf := nnE hf
        obtain ⟨a14, e_a14, hf⟩ := hf
        subst e_a14
        replace hf := caE hf
        obtain ⟨v16, h15, e_h15, hf⟩ := hf
        have q_h15 := EFc ef_h10 (hE_size hx_h10 e_h15) (by decide)
        have hx_h15 := q_h15.1
        have ef_h15 := q_h15.2
        exact EFj ef_h15 (eX11_content_40 F d R_size hE_size (fX11_content_4 F d R_size n) ih _ _ _ _ _ _ hx_h15 hf)
set_option maxHeartbeats 4000000 in
theorem eX11_content (F d : Nat) (R_size : Nat → Nat → Hp → Option (Int32 × Hp)) (hE_size : ∀ {b : Nat} {p0 : Nat} {h : Hp} (_ : FXs h) {r : Int32 × Hp}, R_size b p0 h = some r → FXs r.2 ∧ EF SV_size h r.2) {this : Nat} {p0 : Nat} {h : Hp} (hx : FXs h) {r : Int32 × Hp} (hf : fX11_content F d R_size this p0 h = some r) : FXs r.2 ∧ EF S_X11_content h r.2 := by
  unfold fX11_content at hf
  exact EFj (EF.rf (S := S_X11_content) _) (eX11_content_4 F d R_size hE_size F _ _ _ _ _ hx hf)
abbrev S_X11_pack : SS := ([501], [], [500], [], [])
set_option maxHeartbeats 4000000 in
theorem eX11_pack_78 (F d : Nat) (R_pack : Nat → Nat → Nat → Hp → Option (Hp)) (hE_pack : ∀ {b : Nat} {p0 : Nat} {p1 : Nat} {h : Hp} (_ : FXs h) {r : Hp}, R_pack b p0 p1 h = some r → FXs r ∧ EF SV_pack h r) (k_46 : Nat → Nat → Nat → Int32 → Hp → Option (Hp)) (hk_46 : ∀ (this : Nat) (x1 : Nat) (x2 : Nat) (x3 : Int32) (h : Hp) (hx : FXs h) {r : Hp}, k_46 this x1 x2 x3 h = some r → FXs r ∧ EF S_X11_pack h r) (this : Nat) (x1 : Nat) (x2 : Nat) (x3 : Int32) (h : Hp) (hx : FXs h) {r : Hp} (hf : fX11_pack_78 F d R_pack k_46 this x1 x2 x3 h = some r) : FXs r ∧ EF S_X11_pack h r := by
  unfold fX11_pack_78 at hf
  replace hf := bnE hf
  obtain ⟨v1, e_v1, hf⟩ := hf
  exact EFj (EF.rf (S := S_X11_pack) _) (hk_46 _ _ _ _ _ hx hf)
set_option maxHeartbeats 4000000 in
theorem eX11_pack_46 (F d : Nat) (R_pack : Nat → Nat → Nat → Hp → Option (Hp)) (hE_pack : ∀ {b : Nat} {p0 : Nat} {p1 : Nat} {h : Hp} (_ : FXs h) {r : Hp}, R_pack b p0 p1 h = some r → FXs r ∧ EF SV_pack h r) : ∀ (n : Nat) (this : Nat) (x1 : Nat) (x2 : Nat) (x3 : Int32) (h : Hp) (hx : FXs h) {r : Hp}, fX11_pack_46 F d R_pack n this x1 x2 x3 h = some r → FXs r ∧ EF S_X11_pack h r := by
  intro n
  induction n with
  | zero => intro _ _ _ _ _ _ r hf; cases hf
  | succ n ih =>
    intro this x1 x2 x3 h hx r hf
    unfold fX11_pack_46 at hf
    by_cases c1 : (gI h 1001 this) ≤ x3
    · replace hf := ifp c1 hf
      cases hf
      exact ⟨hx, (EF.rf (S := S_X11_pack) _)⟩
    · replace hf := ifn c1 hf
      replace hf := caE hf
      obtain ⟨v3, h2, e_h2, hf⟩ := hf
      have q_h2 := EFc (EF.rf (S := S_X11_pack) _) (eX11_isWritten F d hx e_h2) (by decide)
      have hx_h2 := q_h2.1
      have ef_h2 := q_h2.2
      by_cases c4 : v3 = 0
      · replace hf := ifp c4 hf
        exact EFj ef_h2 (eX11_pack_78 F d R_pack hE_pack (fX11_pack_46 F d R_pack n) ih _ _ _ _ _ hx_h2 hf)
      · replace hf := ifn c4 hf
        replace hf := nnE hf
        obtain ⟨a6, e_a6, hf⟩ := hf
        have sa_a6 := hx_h2 1000 _ _ e_a6
        replace hf := ckE hf
        obtain ⟨c7, hf⟩ := hf
        replace hf := bnE hf
        obtain ⟨o9, e_o9, hf⟩ := hf
        replace hf := caE hf
        obtain ⟨v11, h10, e_h10, hf⟩ := hf
        have q_h10 := EFc ef_h2 (eX17_component F d hx_h2 e_h10) (by decide)
        have hx_h10 := q_h10.1
        have ef_h10 := q_h10.2
        replace hf := nnE hf
        obtain ⟨a13, e_a13, hf⟩ := hf
        subst e_a13
        replace hf := nnE hf
        obtain ⟨a14, e_a14, hf⟩ := hf
        subst e_a14
        replace hf := cvE hf
        obtain ⟨h15, e_h15, hf⟩ := hf
        have q_h15 := EFc ef_h10 (hE_pack hx_h10 e_h15) (by decide)
        have hx_h15 := q_h15.1
        have ef_h15 := q_h15.2
        exact EFj ef_h15 (eX11_pack_78 F d R_pack hE_pack (fX11_pack_46 F d R_pack n) ih _ _ _ _ _ hx_h15 hf)
set_option maxHeartbeats 4000000 in
theorem eX11_pack_38 (F d : Nat) (R_pack : Nat → Nat → Nat → Hp → Option (Hp)) (hE_pack : ∀ {b : Nat} {p0 : Nat} {p1 : Nat} {h : Hp} (_ : FXs h) {r : Hp}, R_pack b p0 p1 h = some r → FXs r ∧ EF SV_pack h r) (k_2 : Nat → Nat → Nat → Int32 → Hp → Option (Hp)) (hk_2 : ∀ (this : Nat) (x1 : Nat) (x2 : Nat) (x3 : Int32) (h : Hp) (hx : FXs h) {r : Hp}, k_2 this x1 x2 x3 h = some r → FXs r ∧ EF S_X11_pack h r) (this : Nat) (x1 : Nat) (x2 : Nat) (x3 : Int32) (h : Hp) (hx : FXs h) {r : Hp} (hf : fX11_pack_38 F d R_pack k_2 this x1 x2 x3 h = some r) : FXs r ∧ EF S_X11_pack h r := by
  unfold fX11_pack_38 at hf
  replace hf := bnE hf
  obtain ⟨v1, e_v1, hf⟩ := hf
  exact EFj (EF.rf (S := S_X11_pack) _) (hk_2 _ _ _ _ _ hx hf)
set_option maxHeartbeats 4000000 in
theorem eX11_pack_34 (F d : Nat) (R_pack : Nat → Nat → Nat → Hp → Option (Hp)) (hE_pack : ∀ {b : Nat} {p0 : Nat} {p1 : Nat} {h : Hp} (_ : FXs h) {r : Hp}, R_pack b p0 p1 h = some r → FXs r ∧ EF SV_pack h r) (k_2 : Nat → Nat → Nat → Int32 → Hp → Option (Hp)) (hk_2 : ∀ (this : Nat) (x1 : Nat) (x2 : Nat) (x3 : Int32) (h : Hp) (hx : FXs h) {r : Hp}, k_2 this x1 x2 x3 h = some r → FXs r ∧ EF S_X11_pack h r) (this : Nat) (x1 : Nat) (x2 : Nat) (x3 : Int32) (s0 : Nat) (s1 : Int32) (h : Hp) (hx : FXs h) {r : Hp} (hf : fX11_pack_34 F d R_pack k_2 this x1 x2 x3 s0 s1 h = some r) : FXs r ∧ EF S_X11_pack h r := by
  unfold fX11_pack_34 at hf
  replace hf := cvE hf
  obtain ⟨h1, e_h1, hf⟩ := hf
  have q_h1 := EFc (EF.rf (S := S_X11_pack) _) (eX5_put F d hx e_h1) (by decide)
  have hx_h1 := q_h1.1
  have ef_h1 := q_h1.2
  exact EFj ef_h1 (eX11_pack_38 F d R_pack hE_pack k_2 hk_2 _ _ _ _ _ hx_h1 hf)
set_option maxHeartbeats 4000000 in
theorem eX11_pack_2 (F d : Nat) (R_pack : Nat → Nat → Nat → Hp → Option (Hp)) (hE_pack : ∀ {b : Nat} {p0 : Nat} {p1 : Nat} {h : Hp} (_ : FXs h) {r : Hp}, R_pack b p0 p1 h = some r → FXs r ∧ EF SV_pack h r) : ∀ (n : Nat) (this : Nat) (x1 : Nat) (x2 : Nat) (x3 : Int32) (h : Hp) (hx : FXs h) {r : Hp}, fX11_pack_2 F d R_pack n this x1 x2 x3 h = some r → FXs r ∧ EF S_X11_pack h r := by
  intro n
  induction n with
  | zero => intro _ _ _ _ _ _ r hf; cases hf
  | succ n ih =>
    intro this x1 x2 x3 h hx r hf
    unfold fX11_pack_2 at hf
    by_cases c1 : (gI h 1001 this) ≤ x3
    · replace hf := ifp c1 hf
      exact EFj (EF.rf (S := S_X11_pack) _) (eX11_pack_46 F d R_pack hE_pack F _ _ _ _ _ hx hf)
    · replace hf := ifn c1 hf
      replace hf := nnE hf
      obtain ⟨a3, e_a3, hf⟩ := hf
      have sa_a3 := hx 1100 _ _ e_a3
      replace hf := ckE hf
      obtain ⟨c4, hf⟩ := hf
      by_cases c5 : (gA h a3 (Int32.toNatClampNeg x3)) = 0
      · replace hf := ifp c5 hf
        exact EFj (EF.rf (S := S_X11_pack) _) (eX11_pack_38 F d R_pack hE_pack (fX11_pack_2 F d R_pack n) ih _ _ _ _ _ hx hf)
      · replace hf := ifn c5 hf
        replace hf := caE hf
        obtain ⟨v7, h6, e_h6, hf⟩ := hf
        have q_h6 := EFc (EF.rf (S := S_X11_pack) _) (eX11_isWritten F d hx e_h6) (by decide)
        have hx_h6 := q_h6.1
        have ef_h6 := q_h6.2
        by_cases c8 : v7 = 0
        · replace hf := ifp c8 hf
          exact EFj ef_h6 (eX11_pack_34 F d R_pack hE_pack (fX11_pack_2 F d R_pack n) ih _ _ _ _ _ _ _ hx_h6 hf)
        · replace hf := ifn c8 hf
          exact EFj ef_h6 (eX11_pack_34 F d R_pack hE_pack (fX11_pack_2 F d R_pack n) ih _ _ _ _ _ _ _ hx_h6 hf)
set_option maxHeartbeats 4000000 in
theorem eX11_pack (F d : Nat) (R_pack : Nat → Nat → Nat → Hp → Option (Hp)) (hE_pack : ∀ {b : Nat} {p0 : Nat} {p1 : Nat} {h : Hp} (_ : FXs h) {r : Hp}, R_pack b p0 p1 h = some r → FXs r ∧ EF SV_pack h r) {this : Nat} {p0 : Nat} {p1 : Nat} {h : Hp} (hx : FXs h) {r : Hp} (hf : fX11_pack F d R_pack this p0 p1 h = some r) : FXs r ∧ EF S_X11_pack h r := by
  unfold fX11_pack at hf
  exact EFj (EF.rf (S := S_X11_pack) _) (eX11_pack_2 F d R_pack hE_pack F _ _ _ _ _ hx hf)
abbrev S_X4_length : SS := ([401], [], [], [], [])
set_option maxHeartbeats 4000000 in
theorem eX4_length_62 (F d : Nat) (this : Nat) (x2 : Int32) (x3 : Int32) (h : Hp) (hx : FXs h) {r : Int32 × Hp} (hf : fX4_length_62 F d this x2 x3 h = some r) : FXs r.2 ∧ EF S_X4_length h r.2 := by
  unfold fX4_length_62 at hf
  by_cases c1 : 130 < x2
  · replace hf := ifp c1 hf
    cases hf
    exact ⟨hx, (EF.rf (S := S_X4_length) _)⟩
  · replace hf := ifn c1 hf
    by_cases c2 : x3 < 0
    · replace hf := ifp c2 hf
      cases hf
      exact ⟨hx, (EF.rf (S := S_X4_length) _)⟩
    · replace hf := ifn c2 hf
      by_cases c3 : (gI h 402 this) < (gI h 401 this)
      · replace hf := ifp c3 hf
        cases hf
        exact ⟨hx, (EF.rf (S := S_X4_length) _)⟩
      · replace hf := ifn c3 hf
        by_cases c4 : x3 ≤ ((gI h 402 this) - (gI h 401 this))
        · replace hf := ifp c4 hf
          cases hf
          exact ⟨hx, (EF.rf (S := S_X4_length) _)⟩
        · replace hf := ifn c4 hf
          cases hf
          exact ⟨hx, (EF.rf (S := S_X4_length) _)⟩
set_option maxHeartbeats 4000000 in
theorem eX4_length_37 (F d : Nat) (this : Nat) (x2 : Int32) (x3 : Int32) (h : Hp) (hx : FXs h) {r : Int32 × Hp} (hf : fX4_length_37 F d this x2 x3 h = some r) : FXs r.2 ∧ EF S_X4_length h r.2 := by
  unfold fX4_length_37 at hf
  by_cases c1 : x2 = 130
  · replace hf := ifp c1 hf
    replace hf := caE hf
    obtain ⟨v3, h2, e_h2, hf⟩ := hf
    have q_h2 := EFc (EF.rf (S := S_X4_length) _) (eX4_next F d hx e_h2) (by decide)
    have hx_h2 := q_h2.1
    have ef_h2 := q_h2.2
    replace hf := caE hf
    obtain ⟨v5, h4, e_h4, hf⟩ := hf
    have q_h4 := EFc ef_h2 (eX4_next F d hx_h2 e_h4) (by decide)
    have hx_h4 := q_h4.1
    have ef_h4 := q_h4.2
    replace hf := bnE hf
    obtain ⟨v6, e_v6, hf⟩ := hf
    exact EFj ef_h4 (eX4_length_62 F d _ _ _ _ hx_h4 hf)
  · replace hf := ifn c1 hf
    exact EFj (EF.rf (S := S_X4_length) _) (eX4_length_62 F d _ _ _ _ hx hf)
set_option maxHeartbeats 4000000 in
theorem eX4_length (F d : Nat) {this : Nat} {p0 : Int32} {h : Hp} (hx : FXs h) {r : Int32 × Hp} (hf : fX4_length F d this p0 h = some r) : FXs r.2 ∧ EF S_X4_length h r.2 := by
  unfold fX4_length at hf
  replace hf := caE hf
  obtain ⟨v2, h1, e_h1, hf⟩ := hf
  have q_h1 := EFc (EF.rf (S := S_X4_length) _) (eX4_next F d hx e_h1) (by decide)
  have hx_h1 := q_h1.1
  have ef_h1 := q_h1.2
  by_cases c3 : v2 = 128
  · replace hf := ifp c3 hf
    by_cases c7 : p0 = 0
    · replace hf := ifp c7 hf
      cases hf
      exact ⟨hx_h1, ef_h1⟩
    · replace hf := ifn c7 hf
      cases hf
      exact ⟨hx_h1, ef_h1⟩
  · replace hf := ifn c3 hf
    by_cases c4 : v2 = 129
    · replace hf := ifp c4 hf
      replace hf := caE hf
      obtain ⟨v6, h5, e_h5, hf⟩ := hf
      have q_h5 := EFc ef_h1 (eX4_next F d hx_h1 e_h5) (by decide)
      have hx_h5 := q_h5.1
      have ef_h5 := q_h5.2
      exact EFj ef_h5 (eX4_length_37 F d _ _ _ _ hx_h5 hf)
    · replace hf := ifn c4 hf
      exact EFj ef_h1 (eX4_length_37 F d _ _ _ _ hx_h1 hf)
abbrev S_X4_enter : SS := ([401, 402, 407], [], [405, 406], [], [])
set_option maxHeartbeats 4000000 in
theorem eX4_enter_17 (F d : Nat) (this : Nat) (s0 : Int32) (h : Hp) (hx : FXs h) {r : Int32 × Hp} (hf : fX4_enter_17 F d this s0 h = some r) : FXs r.2 ∧ EF S_X4_enter h r.2 := by
  unfold fX4_enter_17 at hf
  by_cases c1 : s0 = (-1)
  · replace hf := ifp c1 hf
    cases hf
    exact ⟨hx, (EF.rf (S := S_X4_enter) _)⟩
  · replace hf := ifn c1 hf
    replace hf := nnE hf
    obtain ⟨a3, e_a3, hf⟩ := hf
    have sa_a3 := hx 405 _ _ e_a3
    replace hf := ckE hf
    obtain ⟨c4, hf⟩ := hf
    replace hf := bnE hf
    obtain ⟨h5, e_h5, hf⟩ := hf
    have hx_h5 := FX_sA hx e_h5
    have ef_h5 := EF_sA (EF.rf (S := S_X4_enter) _) e_h5 (f := 405) (by decide) sa_a3
    replace hf := nnE hf
    obtain ⟨a7, e_a7, hf⟩ := hf
    have sa_a7 := hx_h5 406 _ _ e_a7
    replace hf := ckE hf
    obtain ⟨c8, hf⟩ := hf
    replace hf := bnE hf
    obtain ⟨h9, e_h9, hf⟩ := hf
    have hx_h9 := FX_sA hx_h5 e_h9
    have ef_h9 := EF_sA ef_h5 e_h9 (f := 406) (by decide) sa_a7
    replace hf := bnE hf
    obtain ⟨h10, e_h10, hf⟩ := hf
    have hx_h10 := FX_sI hx_h9 e_h10
    have ef_h10 := EF_sI ef_h9 e_h10 (by decide)
    by_cases c11 : s0 = (-2)
    · replace hf := ifp c11 hf
      replace hf := bnE hf
      obtain ⟨h13, e_h13, hf⟩ := hf
      have hx_h13 := FX_sI hx_h10 e_h13
      have ef_h13 := EF_sI ef_h10 e_h13 (by decide)
      cases hf
      exact ⟨hx_h13, ef_h13⟩
    · replace hf := ifn c11 hf
      replace hf := bnE hf
      obtain ⟨h12, e_h12, hf⟩ := hf
      have hx_h12 := FX_sI hx_h10 e_h12
      have ef_h12 := EF_sI ef_h10 e_h12 (by decide)
      cases hf
      exact ⟨hx_h12, ef_h12⟩
set_option maxHeartbeats 4000000 in
theorem eX4_enter (F d : Nat) {this : Nat} {p0 : Int32} {h : Hp} (hx : FXs h) {r : Int32 × Hp} (hf : fX4_enter F d this p0 h = some r) : FXs r.2 ∧ EF S_X4_enter h r.2 := by
  unfold fX4_enter at hf
  replace hf := caE hf
  obtain ⟨v2, h1, e_h1, hf⟩ := hf
  have q_h1 := EFc (EF.rf (S := S_X4_enter) _) (eX4_next F d hx e_h1) (by decide)
  have hx_h1 := q_h1.1
  have ef_h1 := q_h1.2
  by_cases c3 : v2 = p0
  · replace hf := ifp c3 hf
    replace hf := caE hf
    obtain ⟨v5, h4, e_h4, hf⟩ := hf
    have q_h4 := EFc ef_h1 (eX4_length F d hx_h1 e_h4) (by decide)
    have hx_h4 := q_h4.1
    have ef_h4 := q_h4.2
    exact EFj ef_h4 (eX4_enter_17 F d _ _ _ hx_h4 hf)
  · replace hf := ifn c3 hf
    exact EFj ef_h1 (eX4_enter_17 F d _ _ _ hx_h1 hf)
abbrev S_X4_leave : SS := ([401, 402, 407], [], [], [], [])
set_option maxHeartbeats 4000000 in
theorem eX4_leave_62 (F d : Nat) (this : Nat) (s0 : Int32) (h : Hp) (hx : FXs h) {r : Int32 × Hp} (hf : fX4_leave_62 F d this s0 h = some r) : FXs r.2 ∧ EF S_X4_leave h r.2 := by
  unfold fX4_leave_62 at hf
  replace hf := nnE hf
  obtain ⟨a2, e_a2, hf⟩ := hf
  have sa_a2 := hx 406 _ _ e_a2
  replace hf := ckE hf
  obtain ⟨c3, hf⟩ := hf
  replace hf := bnE hf
  obtain ⟨h4, e_h4, hf⟩ := hf
  have hx_h4 := FX_sI hx e_h4
  have ef_h4 := EF_sI (EF.rf (S := S_X4_leave) _) e_h4 (by decide)
  replace hf := ckE hf
  obtain ⟨c5, hf⟩ := hf
  cases hf
  exact ⟨hx_h4, ef_h4⟩
set_option maxHeartbeats 4000000 in
theorem eX4_leave_42 (F d : Nat) (this : Nat) (h : Hp) (hx : FXs h) {r : Int32 × Hp} (hf : fX4_leave_42 F d this h = some r) : FXs r.2 ∧ EF S_X4_leave h r.2 := by
  unfold fX4_leave_42 at hf
  exact EFj (EF.rf (S := S_X4_leave) _) (eX4_leave_62 F d _ _ _ hx hf)
set_option maxHeartbeats 4000000 in
theorem eX4_leave (F d : Nat) {this : Nat} {h : Hp} (hx : FXs h) {r : Int32 × Hp} (hf : fX4_leave F d this h = some r) : FXs r.2 ∧ EF S_X4_leave h r.2 := by
  unfold fX4_leave at hf
  replace hf := bnE hf
  obtain ⟨h1, e_h1, hf⟩ := hf
  have hx_h1 := FX_sI hx e_h1
  have ef_h1 := EF_sI (EF.rf (S := S_X4_leave) _) e_h1 (by decide)
  replace hf := nnE hf
  obtain ⟨a3, e_a3, hf⟩ := hf
  have sa_a3 := hx_h1 405 _ _ e_a3
  replace hf := ckE hf
  obtain ⟨c4, hf⟩ := hf
  by_cases c5 : (gA h1 a3 (Int32.toNatClampNeg (gI h1 407 this))) = (-2)
  · replace hf := ifp c5 hf
    replace hf := caE hf
    obtain ⟨v8, h7, e_h7, hf⟩ := hf
    have q_h7 := EFc ef_h1 (eX4_next F d hx_h1 e_h7) (by decide)
    have hx_h7 := q_h7.1
    have ef_h7 := q_h7.2
    by_cases c9 : v8 = 0
    · replace hf := ifp c9 hf
      replace hf := caE hf
      obtain ⟨v11, h10, e_h10, hf⟩ := hf
      have q_h10 := EFc ef_h7 (eX4_next F d hx_h7 e_h10) (by decide)
      have hx_h10 := q_h10.1
      have ef_h10 := q_h10.2
      by_cases c12 : v11 = 0
      · replace hf := ifp c12 hf
        exact EFj ef_h10 (eX4_leave_62 F d _ _ _ hx_h10 hf)
      · replace hf := ifn c12 hf
        exact EFj ef_h10 (eX4_leave_42 F d _ _ hx_h10 hf)
    · replace hf := ifn c9 hf
      exact EFj ef_h7 (eX4_leave_42 F d _ _ hx_h7 hf)
  · replace hf := ifn c5 hf
    by_cases c6 : (gI h1 401 this) = (gI h1 402 this)
    · replace hf := ifp c6 hf
      exact EFj ef_h1 (eX4_leave_62 F d _ _ _ hx_h1 hf)
    · replace hf := ifn c6 hf
      exact EFj ef_h1 (eX4_leave_62 F d _ _ _ hx_h1 hf)
abbrev S_X11_read : SS := ([303, 304, 401, 402, 407, 1700, 1701, 1702, 1703], [1706, 1707, 1708], [302, 405, 406], [300], [13])
set_option maxHeartbeats 4000000 in
theorem eX11_read_116 (F d : Nat) (R_read : Nat → Nat → Int32 → Hp → Option (Option Nat × Hp)) (hE_read : ∀ {b : Nat} {p0 : Nat} {p1 : Int32} {h : Hp} (_ : FXs h) {r : Option Nat × Hp}, R_read b p0 p1 h = some r → FXs r.2 ∧ EF SV_read h r.2) (k_46 : Nat → Nat → Nat → Int32 → Hp → Option (Option Nat × Hp)) (hk_46 : ∀ (this : Nat) (x1 : Nat) (x3 : Nat) (x4 : Int32) (h : Hp) (hx : FXs h) {r : Option Nat × Hp}, k_46 this x1 x3 x4 h = some r → FXs r.2 ∧ EF S_X11_read h r.2) (this : Nat) (x1 : Nat) (x3 : Nat) (x4 : Int32) (x5 : Int32) (s0 : Nat) (s1 : Nat) (s2 : Int32) (s3 : Option Nat) (h : Hp) (hx : FXs h) {r : Option Nat × Hp} (hf : fX11_read_116 F d R_read k_46 this x1 x3 x4 x5 s0 s1 s2 s3 h = some r) : FXs r.2 ∧ EF S_X11_read h r.2 := by
  unfold fX11_read_116 at hf
  replace hf := nnE hf
  obtain ⟨a2, e_a2, hf⟩ := hf
  replace hf := caE hf
  obtain ⟨v4, h3, e_h3, hf⟩ := hf
  have q_h3 := EFc (EF.rf (S := S_X11_read) _) (eX11_add F d hx e_h3) (by decide)
  have hx_h3 := q_h3.1
  have ef_h3 := q_h3.2
  by_cases c5 : v4 = 0
  · replace hf := ifp c5 hf
    cases hf
    exact ⟨hx_h3, ef_h3⟩
  · replace hf := ifn c5 hf
    replace hf := bnE hf
    obtain ⟨v6, e_v6, hf⟩ := hf
    exact EFj ef_h3 (hk_46 _ _ _ _ _ hx_h3 hf)
set_option maxHeartbeats 4000000 in
theorem eX11_read_89 (F d : Nat) (R_read : Nat → Nat → Int32 → Hp → Option (Option Nat × Hp)) (hE_read : ∀ {b : Nat} {p0 : Nat} {p1 : Int32} {h : Hp} (_ : FXs h) {r : Option Nat × Hp}, R_read b p0 p1 h = some r → FXs r.2 ∧ EF SV_read h r.2) (k_46 : Nat → Nat → Nat → Int32 → Hp → Option (Option Nat × Hp)) (hk_46 : ∀ (this : Nat) (x1 : Nat) (x3 : Nat) (x4 : Int32) (h : Hp) (hx : FXs h) {r : Option Nat × Hp}, k_46 this x1 x3 x4 h = some r → FXs r.2 ∧ EF S_X11_read h r.2) (this : Nat) (x1 : Nat) (x3 : Nat) (x4 : Int32) (s0 : Int32) (h : Hp) (hx : FXs h) {r : Option Nat × Hp} (hf : fX11_read_89 F d R_read k_46 this x1 x3 x4 s0 h = some r) : FXs r.2 ∧ EF S_X11_read h r.2 := by
  unfold fX11_read_89 at hf
  by_cases c1 : s0 = 0
  · replace hf := ifp c1 hf
    exact EFj (EF.rf (S := S_X11_read) _) (eX11_read_116 F d R_read hE_read k_46 hk_46 _ _ _ _ _ _ _ _ _ _ hx hf)
  · replace hf := ifn c1 hf
    replace hf := nnE hf
    obtain ⟨a3, e_a3, hf⟩ := hf
    have sa_a3 := hx 1000 _ _ e_a3
    replace hf := ckE hf
    obtain ⟨c4, hf⟩ := hf
    replace hf := bnE hf
    obtain ⟨o6, e_o6, hf⟩ := hf
    replace hf := nnE hf
    obtain ⟨a7, e_a7, hf⟩ := hf
    subst e_a7
    replace hf := caE hf
    obtain ⟨v9, h8, e_h8, hf⟩ := hf
    have q_h8 := EFc (EF.rf (S := S_X11_read) _) (hE_read hx e_h8) (by decide)
    have hx_h8 := q_h8.1
    have ef_h8 := q_h8.2
    exact EFj ef_h8 (eX11_read_116 F d R_read hE_read k_46 hk_46 _ _ _ _ _ _ _ _ _ _ hx_h8 hf)
set_option maxHeartbeats 4000000 in
theorem eX11_read_88 (F d : Nat) (R_read : Nat → Nat → Int32 → Hp → Option (Option Nat × Hp)) (hE_read : ∀ {b : Nat} {p0 : Nat} {p1 : Int32} {h : Hp} (_ : FXs h) {r : Option Nat × Hp}, R_read b p0 p1 h = some r → FXs r.2 ∧ EF SV_read h r.2) (k_46 : Nat → Nat → Nat → Int32 → Hp → Option (Option Nat × Hp)) (hk_46 : ∀ (this : Nat) (x1 : Nat) (x3 : Nat) (x4 : Int32) (h : Hp) (hx : FXs h) {r : Option Nat × Hp}, k_46 this x1 x3 x4 h = some r → FXs r.2 ∧ EF S_X11_read h r.2) (this : Nat) (x1 : Nat) (x3 : Nat) (x4 : Int32) (h : Hp) (hx : FXs h) {r : Option Nat × Hp} (hf : fX11_read_88 F d R_read k_46 this x1 x3 x4 h = some r) : FXs r.2 ∧ EF S_X11_read h r.2 := by
  unfold fX11_read_88 at hf
  exact EFj (EF.rf (S := S_X11_read) _) (eX11_read_89 F d R_read hE_read k_46 hk_46 _ _ _ _ _ _ hx hf)
set_option maxHeartbeats 4000000 in
theorem eX11_read_46 (F d : Nat) (R_read : Nat → Nat → Int32 → Hp → Option (Option Nat × Hp)) (hE_read : ∀ {b : Nat} {p0 : Nat} {p1 : Int32} {h : Hp} (_ : FXs h) {r : Option Nat × Hp}, R_read b p0 p1 h = some r → FXs r.2 ∧ EF SV_read h r.2) : ∀ (n : Nat) (this : Nat) (x1 : Nat) (x3 : Nat) (x4 : Int32) (h : Hp) (hx : FXs h) {r : Option Nat × Hp}, fX11_read_46 F d R_read n this x1 x3 x4 h = some r → FXs r.2 ∧ EF S_X11_read h r.2 := by
  intro n
  induction n with
  | zero => intro _ _ _ _ _ _ r hf; cases hf
  | succ n ih =>
    intro this x1 x3 x4 h hx r hf
    unfold fX11_read_46 at hf
    by_cases c1 : (gI h 1001 this) ≤ x4
    · replace hf := ifp c1 hf
      replace hf := caE hf
      obtain ⟨v3, h2, e_h2, hf⟩ := hf
      have q_h2 := EFc (EF.rf (S := S_X11_read) _) (eX4_leave F d hx e_h2) (by decide)
      have hx_h2 := q_h2.1
      have ef_h2 := q_h2.2
      by_cases c4 : v3 = 0
      · replace hf := ifp c4 hf
        cases hf
        exact ⟨hx_h2, ef_h2⟩
      · replace hf := ifn c4 hf
        cases hf
        exact ⟨hx_h2, ef_h2⟩
    · replace hf := ifn c1 hf
      replace hf := caE hf
      obtain ⟨v6, h5, e_h5, hf⟩ := hf
      have q_h5 := EFc (EF.rf (S := S_X11_read) _) (eX4_tag F d hx e_h5) (by decide)
      have hx_h5 := q_h5.1
      have ef_h5 := q_h5.2
      by_cases c7 : v6 = (-1)
      · replace hf := ifp c7 hf
        exact EFj ef_h5 (eX11_read_88 F d R_read hE_read (fX11_read_46 F d R_read n) ih _ _ _ _ _ hx_h5 hf)
      · replace hf := ifn c7 hf
        replace hf := nnE hf
        obtain ⟨a9, e_a9, hf⟩ := hf
        have sa_a9 := hx_h5 1000 _ _ e_a9
        replace hf := ckE hf
        obtain ⟨c10, hf⟩ := hf
        replace hf := bnE hf
        obtain ⟨o12, e_o12, hf⟩ := hf
        replace hf := nnE hf
        obtain ⟨a13, e_a13, hf⟩ := hf
        subst e_a13
        replace hf := caE hf
        obtain ⟨v15, h14, e_h14, hf⟩ := hf
        have q_h14 := EFc ef_h5 (ev_tags F d hx_h5 e_h14) (by decide)
        have hx_h14 := q_h14.1
        have ef_h14 := q_h14.2
        replace hf := caE hf
        obtain ⟨v17, h16, e_h16, hf⟩ := hf
        have q_h16 := EFc ef_h14 (eX4_tag F d hx_h14 e_h16) (by decide)
        have hx_h16 := q_h16.1
        have ef_h16 := q_h16.2
        by_cases c18 : ((v15 >>> (v17 &&& 31)) &&& 1) = 1
        · replace hf := ifp c18 hf
          exact EFj ef_h16 (eX11_read_89 F d R_read hE_read (fX11_read_46 F d R_read n) ih _ _ _ _ _ _ hx_h16 hf)
        · replace hf := ifn c18 hf
          exact EFj ef_h16 (eX11_read_88 F d R_read hE_read (fX11_read_46 F d R_read n) ih _ _ _ _ _ hx_h16 hf)
set_option maxHeartbeats 4000000 in
theorem eX11_read_36 (F d : Nat) (R_read : Nat → Nat → Int32 → Hp → Option (Option Nat × Hp)) (hE_read : ∀ {b : Nat} {p0 : Nat} {p1 : Int32} {h : Hp} (_ : FXs h) {r : Option Nat × Hp}, R_read b p0 p1 h = some r → FXs r.2 ∧ EF SV_read h r.2) (this : Nat) (x1 : Nat) (s0 : Option Nat) (h : Hp) (hx : FXs h) {r : Option Nat × Hp} (hf : fX11_read_36 F d R_read this x1 s0 h = some r) : FXs r.2 ∧ EF S_X11_read h r.2 := by
  unfold fX11_read_36 at hf
  rcases nd_on s0 with e_a1 | ⟨a1, e_a1⟩
  · replace hf := ocN e_a1 hf
    subst e_a1
    cases hf
    exact ⟨hx, (EF.rf (S := S_X11_read) _)⟩
  · replace hf := ocS e_a1 hf
    subst e_a1
    exact EFj (EF.rf (S := S_X11_read) _) (eX11_read_46 F d R_read hE_read F _ _ _ _ _ hx hf)
set_option maxHeartbeats 4000000 in
theorem eX11_read_16 (F d : Nat) (R_read : Nat → Nat → Int32 → Hp → Option (Option Nat × Hp)) (hE_read : ∀ {b : Nat} {p0 : Nat} {p1 : Int32} {h : Hp} (_ : FXs h) {r : Option Nat × Hp}, R_read b p0 p1 h = some r → FXs r.2 ∧ EF SV_read h r.2) (this : Nat) (x1 : Nat) (s0 : Nat) (s1 : Int32) (h : Hp) (hx : FXs h) {r : Option Nat × Hp} (hf : fX11_read_16 F d R_read this x1 s0 s1 h = some r) : FXs r.2 ∧ EF S_X11_read h r.2 := by
  unfold fX11_read_16 at hf
  replace hf := caE hf
  obtain ⟨v2, h1, e_h1, hf⟩ := hf
  have q_h1 := EFc (EF.rf (S := S_X11_read) _) (eX4_enter F d hx e_h1) (by decide)
  have hx_h1 := q_h1.1
  have ef_h1 := q_h1.2
  by_cases c3 : v2 = 0
  · replace hf := ifp c3 hf
    exact EFj ef_h1 (eX11_read_36 F d R_read hE_read _ _ _ _ hx_h1 hf)
  · replace hf := ifn c3 hf
    replace hf := nnE hf
    obtain ⟨a5, e_a5, hf⟩ := hf
    replace hf := caE hf
    obtain ⟨v7, h6, e_h6, hf⟩ := hf
    have q_h6 := EFc ef_h1 (eX3_make F d hx_h1 e_h6) (by decide)
    have hx_h6 := q_h6.1
    have ef_h6 := q_h6.2
    exact EFj ef_h6 (eX11_read_36 F d R_read hE_read _ _ _ _ hx_h6 hf)
set_option maxHeartbeats 4000000 in
theorem eX11_read (F d : Nat) (R_read : Nat → Nat → Int32 → Hp → Option (Option Nat × Hp)) (hE_read : ∀ {b : Nat} {p0 : Nat} {p1 : Int32} {h : Hp} (_ : FXs h) {r : Option Nat × Hp}, R_read b p0 p1 h = some r → FXs r.2 ∧ EF SV_read h r.2) {this : Nat} {p0 : Nat} {p1 : Int32} {h : Hp} (hx : FXs h) {r : Option Nat × Hp} (hf : fX11_read F d R_read this p0 p1 h = some r) : FXs r.2 ∧ EF S_X11_read h r.2 := by
  unfold fX11_read at hf
  by_cases c1 : p1 = (-1)
  · replace hf := ifp c1 hf
    exact EFj (EF.rf (S := S_X11_read) _) (eX11_read_16 F d R_read hE_read _ _ _ _ _ hx hf)
  · replace hf := ifn c1 hf
    exact EFj (EF.rf (S := S_X11_read) _) (eX11_read_16 F d R_read hE_read _ _ _ _ _ hx hf)
abbrev S_X1_headed : SS := ([], [], [], [], [])
set_option maxHeartbeats 4000000 in
theorem eX1_headed (F d : Nat) {p0 : Int32} {h : Hp} (hx : FXs h) {r : Int32 × Hp} (hf : fX1_headed F d p0 h = some r) : FXs r.2 ∧ EF S_X1_headed h r.2 := by
  unfold fX1_headed at hf
  by_cases c1 : 128 ≤ p0
  · replace hf := ifp c1 hf
    by_cases c2 : 256 ≤ p0
    · replace hf := ifp c2 hf
      cases hf
      exact ⟨hx, (EF.rf (S := S_X1_headed) _)⟩
    · replace hf := ifn c2 hf
      cases hf
      exact ⟨hx, (EF.rf (S := S_X1_headed) _)⟩
  · replace hf := ifn c1 hf
    cases hf
    exact ⟨hx, (EF.rf (S := S_X1_headed) _)⟩
abbrev S_X11_size : SS := ([], [], [], [], [])
set_option maxHeartbeats 4000000 in
theorem eX11_size (F d : Nat) (R_size : Nat → Nat → Hp → Option (Int32 × Hp)) (hE_size : ∀ {b : Nat} {p0 : Nat} {h : Hp} (_ : FXs h) {r : Int32 × Hp}, R_size b p0 h = some r → FXs r.2 ∧ EF SV_size h r.2) {this : Nat} {p0 : Nat} {h : Hp} (hx : FXs h) {r : Int32 × Hp} (hf : fX11_size F d R_size this p0 h = some r) : FXs r.2 ∧ EF S_X11_size h r.2 := by
  unfold fX11_size at hf
  replace hf := caE hf
  obtain ⟨v2, h1, e_h1, hf⟩ := hf
  have q_h1 := EFc (EF.rf (S := S_X11_size) _) (eX11_content F d R_size hE_size hx e_h1) (by decide)
  have hx_h1 := q_h1.1
  have ef_h1 := q_h1.2
  replace hf := caE hf
  obtain ⟨v4, h3, e_h3, hf⟩ := hf
  have q_h3 := EFc ef_h1 (eX1_headed F d hx_h1 e_h3) (by decide)
  have hx_h3 := q_h3.1
  have ef_h3 := q_h3.2
  cases hf
  exact ⟨hx_h3, ef_h3⟩
abbrev S_X11_unpack : SS := ([303, 304, 403, 1700, 1701, 1702, 1703], [1706, 1707, 1708], [302], [300], [13])
set_option maxHeartbeats 4000000 in
theorem eX11_unpack_134 (F d : Nat) (R_unpack : Nat → Nat → Hp → Option (Option Nat × Hp)) (hE_unpack : ∀ {b : Nat} {p0 : Nat} {h : Hp} (_ : FXs h) {r : Option Nat × Hp}, R_unpack b p0 h = some r → FXs r.2 ∧ EF SV_unpack h r.2) (k_66 : Nat → Nat → Int32 → Option Nat → Int32 → Hp → Option (Option Nat × Hp)) (hk_66 : ∀ (this : Nat) (x1 : Nat) (x2 : Int32) (x3 : Option Nat) (x4 : Int32) (h : Hp) (hx : FXs h) {r : Option Nat × Hp}, k_66 this x1 x2 x3 x4 h = some r → FXs r.2 ∧ EF S_X11_unpack h r.2) (this : Nat) (x1 : Nat) (x2 : Int32) (x3 : Option Nat) (x4 : Int32) (h : Hp) (hx : FXs h) {r : Option Nat × Hp} (hf : fX11_unpack_134 F d R_unpack k_66 this x1 x2 x3 x4 h = some r) : FXs r.2 ∧ EF S_X11_unpack h r.2 := by
  unfold fX11_unpack_134 at hf
  replace hf := bnE hf
  obtain ⟨v1, e_v1, hf⟩ := hf
  exact EFj (EF.rf (S := S_X11_unpack) _) (hk_66 _ _ _ _ _ _ hx hf)
set_option maxHeartbeats 4000000 in
theorem eX11_unpack_120 (F d : Nat) (R_unpack : Nat → Nat → Hp → Option (Option Nat × Hp)) (hE_unpack : ∀ {b : Nat} {p0 : Nat} {h : Hp} (_ : FXs h) {r : Option Nat × Hp}, R_unpack b p0 h = some r → FXs r.2 ∧ EF SV_unpack h r.2) (k_66 : Nat → Nat → Int32 → Option Nat → Int32 → Hp → Option (Option Nat × Hp)) (hk_66 : ∀ (this : Nat) (x1 : Nat) (x2 : Int32) (x3 : Option Nat) (x4 : Int32) (h : Hp) (hx : FXs h) {r : Option Nat × Hp}, k_66 this x1 x2 x3 x4 h = some r → FXs r.2 ∧ EF S_X11_unpack h r.2) (this : Nat) (x1 : Nat) (x2 : Int32) (x3 : Nat) (x4 : Int32) (x5 : Int32) (s0 : Nat) (s1 : Nat) (s2 : Int32) (s3 : Option Nat) (h : Hp) (hx : FXs h) {r : Option Nat × Hp} (hf : fX11_unpack_120 F d R_unpack k_66 this x1 x2 x3 x4 x5 s0 s1 s2 s3 h = some r) : FXs r.2 ∧ EF S_X11_unpack h r.2 := by
  unfold fX11_unpack_120 at hf
  replace hf := nnE hf
  obtain ⟨a2, e_a2, hf⟩ := hf
  replace hf := caE hf
  obtain ⟨v4, h3, e_h3, hf⟩ := hf
  have q_h3 := EFc (EF.rf (S := S_X11_unpack) _) (eX11_add F d hx e_h3) (by decide)
  have hx_h3 := q_h3.1
  have ef_h3 := q_h3.2
  by_cases c5 : v4 = 0
  · replace hf := ifp c5 hf
    exact EFj ef_h3 (eX11_unpack_134 F d R_unpack hE_unpack k_66 hk_66 _ _ _ _ _ _ hx_h3 hf)
  · replace hf := ifn c5 hf
    exact EFj ef_h3 (eX11_unpack_134 F d R_unpack hE_unpack k_66 hk_66 _ _ _ _ _ _ hx_h3 hf)
set_option maxHeartbeats 4000000 in
theorem eX11_unpack_94 (F d : Nat) (R_unpack : Nat → Nat → Hp → Option (Option Nat × Hp)) (hE_unpack : ∀ {b : Nat} {p0 : Nat} {h : Hp} (_ : FXs h) {r : Option Nat × Hp}, R_unpack b p0 h = some r → FXs r.2 ∧ EF SV_unpack h r.2) (k_66 : Nat → Nat → Int32 → Option Nat → Int32 → Hp → Option (Option Nat × Hp)) (hk_66 : ∀ (this : Nat) (x1 : Nat) (x2 : Int32) (x3 : Option Nat) (x4 : Int32) (h : Hp) (hx : FXs h) {r : Option Nat × Hp}, k_66 this x1 x2 x3 x4 h = some r → FXs r.2 ∧ EF S_X11_unpack h r.2) (this : Nat) (x1 : Nat) (x2 : Int32) (x3 : Nat) (x4 : Int32) (s0 : Int32) (h : Hp) (hx : FXs h) {r : Option Nat × Hp} (hf : fX11_unpack_94 F d R_unpack k_66 this x1 x2 x3 x4 s0 h = some r) : FXs r.2 ∧ EF S_X11_unpack h r.2 := by
  unfold fX11_unpack_94 at hf
  by_cases c1 : s0 = 0
  · replace hf := ifp c1 hf
    exact EFj (EF.rf (S := S_X11_unpack) _) (eX11_unpack_120 F d R_unpack hE_unpack k_66 hk_66 _ _ _ _ _ _ _ _ _ _ _ hx hf)
  · replace hf := ifn c1 hf
    replace hf := nnE hf
    obtain ⟨a3, e_a3, hf⟩ := hf
    have sa_a3 := hx 1000 _ _ e_a3
    replace hf := ckE hf
    obtain ⟨c4, hf⟩ := hf
    replace hf := bnE hf
    obtain ⟨o6, e_o6, hf⟩ := hf
    replace hf := nnE hf
    obtain ⟨a7, e_a7, hf⟩ := hf
    subst e_a7
    replace hf := caE hf
    obtain ⟨v9, h8, e_h8, hf⟩ := hf
    have q_h8 := EFc (EF.rf (S := S_X11_unpack) _) (hE_unpack hx e_h8) (by decide)
    have hx_h8 := q_h8.1
    have ef_h8 := q_h8.2
    exact EFj ef_h8 (eX11_unpack_120 F d R_unpack hE_unpack k_66 hk_66 _ _ _ _ _ _ _ _ _ _ _ hx_h8 hf)
set_option maxHeartbeats 4000000 in
theorem eX11_unpack_66 (F d : Nat) (R_unpack : Nat → Nat → Hp → Option (Option Nat × Hp)) (hE_unpack : ∀ {b : Nat} {p0 : Nat} {h : Hp} (_ : FXs h) {r : Option Nat × Hp}, R_unpack b p0 h = some r → FXs r.2 ∧ EF SV_unpack h r.2) : ∀ (n : Nat) (this : Nat) (x1 : Nat) (x2 : Int32) (x3 : Option Nat) (x4 : Int32) (h : Hp) (hx : FXs h) {r : Option Nat × Hp}, fX11_unpack_66 F d R_unpack n this x1 x2 x3 x4 h = some r → FXs r.2 ∧ EF S_X11_unpack h r.2 := by
  intro n
  induction n with
  | zero => intro _ _ _ _ _ _ _ r hf; cases hf
  | succ n ih =>
    intro this x1 x2 x3 x4 h hx r hf
    unfold fX11_unpack_66 at hf
    by_cases c1 : (gI h 1001 this) ≤ x4
    · replace hf := ifp c1 hf
      cases hf
      exact ⟨hx, (EF.rf (S := S_X11_unpack) _)⟩
    · replace hf := ifn c1 hf
      rcases nd_on x3 with e_a2 | ⟨a2, e_a2⟩
      · replace hf := ocN e_a2 hf
        subst e_a2
        cases hf
        exact ⟨hx, (EF.rf (S := S_X11_unpack) _)⟩
      · replace hf := ocS e_a2 hf
        subst e_a2
        by_cases c3 : ((x2 >>> (x4 &&& 31)) &&& 1) = 1
        · replace hf := ifp c3 hf
          exact EFj (EF.rf (S := S_X11_unpack) _) (eX11_unpack_94 F d R_unpack hE_unpack (fX11_unpack_66 F d R_unpack n) ih _ _ _ _ _ _ _ hx hf)
        · replace hf := ifn c3 hf
          exact EFj (EF.rf (S := S_X11_unpack) _) (eX11_unpack_94 F d R_unpack hE_unpack (fX11_unpack_66 F d R_unpack n) ih _ _ _ _ _ _ _ hx hf)
set_option maxHeartbeats 4000000 in
theorem eX11_unpack_62 (F d : Nat) (R_unpack : Nat → Nat → Hp → Option (Option Nat × Hp)) (hE_unpack : ∀ {b : Nat} {p0 : Nat} {h : Hp} (_ : FXs h) {r : Option Nat × Hp}, R_unpack b p0 h = some r → FXs r.2 ∧ EF SV_unpack h r.2) (this : Nat) (x1 : Nat) (x2 : Int32) (s0 : Option Nat) (h : Hp) (hx : FXs h) {r : Option Nat × Hp} (hf : fX11_unpack_62 F d R_unpack this x1 x2 s0 h = some r) : FXs r.2 ∧ EF S_X11_unpack h r.2 := by
  unfold fX11_unpack_62 at hf
  exact EFj (EF.rf (S := S_X11_unpack) _) (eX11_unpack_66 F d R_unpack hE_unpack F _ _ _ _ _ _ hx hf)
set_option maxHeartbeats 4000000 in
theorem eX11_unpack_31 (F d : Nat) (R_unpack : Nat → Nat → Hp → Option (Option Nat × Hp)) (hE_unpack : ∀ {b : Nat} {p0 : Nat} {h : Hp} (_ : FXs h) {r : Option Nat × Hp}, R_unpack b p0 h = some r → FXs r.2 ∧ EF SV_unpack h r.2) (k_4 : Nat → Nat → Int32 → Int32 → Hp → Option (Option Nat × Hp)) (hk_4 : ∀ (this : Nat) (x1 : Nat) (x2 : Int32) (x3 : Int32) (h : Hp) (hx : FXs h) {r : Option Nat × Hp}, k_4 this x1 x2 x3 h = some r → FXs r.2 ∧ EF S_X11_unpack h r.2) (this : Nat) (x1 : Nat) (x3 : Int32) (s0 : Int32) (s1 : Int32) (h : Hp) (hx : FXs h) {r : Option Nat × Hp} (hf : fX11_unpack_31 F d R_unpack k_4 this x1 x3 s0 s1 h = some r) : FXs r.2 ∧ EF S_X11_unpack h r.2 := by
  unfold fX11_unpack_31 at hf
  replace hf := bnE hf
  obtain ⟨v1, e_v1, hf⟩ := hf
  replace hf := bnE hf
  obtain ⟨v2, e_v2, hf⟩ := hf
  exact EFj (EF.rf (S := S_X11_unpack) _) (hk_4 _ _ _ _ _ hx hf)
set_option maxHeartbeats 4000000 in
theorem eX11_unpack_4 (F d : Nat) (R_unpack : Nat → Nat → Hp → Option (Option Nat × Hp)) (hE_unpack : ∀ {b : Nat} {p0 : Nat} {h : Hp} (_ : FXs h) {r : Option Nat × Hp}, R_unpack b p0 h = some r → FXs r.2 ∧ EF SV_unpack h r.2) : ∀ (n : Nat) (this : Nat) (x1 : Nat) (x2 : Int32) (x3 : Int32) (h : Hp) (hx : FXs h) {r : Option Nat × Hp}, fX11_unpack_4 F d R_unpack n this x1 x2 x3 h = some r → FXs r.2 ∧ EF S_X11_unpack h r.2 := by
  intro n
  induction n with
  | zero => intro _ _ _ _ _ _ r hf; cases hf
  | succ n ih =>
    intro this x1 x2 x3 h hx r hf
    unfold fX11_unpack_4 at hf
    by_cases c1 : (gI h 1001 this) ≤ x3
    · replace hf := ifp c1 hf
      replace hf := caE hf
      obtain ⟨v3, h2, e_h2, hf⟩ := hf
      have q_h2 := EFc (EF.rf (S := S_X11_unpack) _) (eX4_isThere F d hx e_h2) (by decide)
      have hx_h2 := q_h2.1
      have ef_h2 := q_h2.2
      by_cases c4 : v3 = 0
      · replace hf := ifp c4 hf
        exact EFj ef_h2 (eX11_unpack_62 F d R_unpack hE_unpack _ _ _ _ _ hx_h2 hf)
      · replace hf := ifn c4 hf
        replace hf := nnE hf
        obtain ⟨a6, e_a6, hf⟩ := hf
        replace hf := caE hf
        obtain ⟨v8, h7, e_h7, hf⟩ := hf
        have q_h7 := EFc ef_h2 (eX3_make F d hx_h2 e_h7) (by decide)
        have hx_h7 := q_h7.1
        have ef_h7 := q_h7.2
        exact EFj ef_h7 (eX11_unpack_62 F d R_unpack hE_unpack _ _ _ _ _ hx_h7 hf)
    · replace hf := ifn c1 hf
      replace hf := nnE hf
      obtain ⟨a11, e_a11, hf⟩ := hf
      have sa_a11 := hx 1100 _ _ e_a11
      replace hf := ckE hf
      obtain ⟨c12, hf⟩ := hf
      by_cases c13 : (gA h a11 (Int32.toNatClampNeg x3)) = 0
      · replace hf := ifp c13 hf
        exact EFj (EF.rf (S := S_X11_unpack) _) (eX11_unpack_31 F d R_unpack hE_unpack (fX11_unpack_4 F d R_unpack n) ih _ _ _ _ _ _ hx hf)
      · replace hf := ifn c13 hf
        replace hf := caE hf
        obtain ⟨v15, h14, e_h14, hf⟩ := hf
        have q_h14 := EFc (EF.rf (S := S_X11_unpack) _) (eX4_take F d hx e_h14) (by decide)
        have hx_h14 := q_h14.1
        have ef_h14 := q_h14.2
        exact EFj ef_h14 (eX11_unpack_31 F d R_unpack hE_unpack (fX11_unpack_4 F d R_unpack n) ih _ _ _ _ _ _ hx_h14 hf)
set_option maxHeartbeats 4000000 in
theorem eX11_unpack (F d : Nat) (R_unpack : Nat → Nat → Hp → Option (Option Nat × Hp)) (hE_unpack : ∀ {b : Nat} {p0 : Nat} {h : Hp} (_ : FXs h) {r : Option Nat × Hp}, R_unpack b p0 h = some r → FXs r.2 ∧ EF SV_unpack h r.2) {this : Nat} {p0 : Nat} {h : Hp} (hx : FXs h) {r : Option Nat × Hp} (hf : fX11_unpack F d R_unpack this p0 h = some r) : FXs r.2 ∧ EF S_X11_unpack h r.2 := by
  unfold fX11_unpack at hf
  exact EFj (EF.rf (S := S_X11_unpack) _) (eX11_unpack_4 F d R_unpack hE_unpack F _ _ _ _ _ hx hf)
abbrev S_X5_header : SS := ([501], [], [500], [], [])
set_option maxHeartbeats 4000000 in
theorem eX5_header_43 (F d : Nat) (this : Nat) (x2 : Int32) (h : Hp) (hx : FXs h) {r : Hp} (hf : fX5_header_43 F d this x2 h = some r) : FXs r ∧ EF S_X5_header h r := by
  unfold fX5_header_43 at hf
  replace hf := cvE hf
  obtain ⟨h1, e_h1, hf⟩ := hf
  have q_h1 := EFc (EF.rf (S := S_X5_header) _) (eX5_add F d hx e_h1) (by decide)
  have hx_h1 := q_h1.1
  have ef_h1 := q_h1.2
  cases hf
  exact ⟨hx_h1, ef_h1⟩
set_option maxHeartbeats 4000000 in
theorem eX5_header (F d : Nat) {this : Nat} {p0 : Int32} {p1 : Int32} {h : Hp} (hx : FXs h) {r : Hp} (hf : fX5_header F d this p0 p1 h = some r) : FXs r ∧ EF S_X5_header h r := by
  unfold fX5_header at hf
  replace hf := cvE hf
  obtain ⟨h1, e_h1, hf⟩ := hf
  have q_h1 := EFc (EF.rf (S := S_X5_header) _) (eX5_add F d hx e_h1) (by decide)
  have hx_h1 := q_h1.1
  have ef_h1 := q_h1.2
  by_cases c3 : p1 ≤ 255
  · replace hf := ifp c3 hf
    by_cases c4 : p1 ≤ 127
    · replace hf := ifp c4 hf
      exact EFj ef_h1 (eX5_header_43 F d _ _ _ hx_h1 hf)
    · replace hf := ifn c4 hf
      replace hf := cvE hf
      obtain ⟨h5, e_h5, hf⟩ := hf
      have q_h5 := EFc ef_h1 (eX5_add F d hx_h1 e_h5) (by decide)
      have hx_h5 := q_h5.1
      have ef_h5 := q_h5.2
      exact EFj ef_h5 (eX5_header_43 F d _ _ _ hx_h5 hf)
  · replace hf := ifn c3 hf
    replace hf := cvE hf
    obtain ⟨h7, e_h7, hf⟩ := hf
    have q_h7 := EFc ef_h1 (eX5_add F d hx_h1 e_h7) (by decide)
    have hx_h7 := q_h7.1
    have ef_h7 := q_h7.2
    replace hf := cvE hf
    obtain ⟨h9, e_h9, hf⟩ := hf
    have q_h9 := EFc ef_h7 (eX5_add F d hx_h7 e_h9) (by decide)
    have hx_h9 := q_h9.1
    have ef_h9 := q_h9.2
    exact EFj ef_h9 (eX5_header_43 F d _ _ _ hx_h9 hf)
abbrev S_X15_content : SS := ([], [], [], [], [])
set_option maxHeartbeats 4000000 in
theorem eX15_content_7 (F d : Nat) (R_size : Nat → Nat → Hp → Option (Int32 × Hp)) (hE_size : ∀ {b : Nat} {p0 : Nat} {h : Hp} (_ : FXs h) {r : Int32 × Hp}, R_size b p0 h = some r → FXs r.2 ∧ EF SV_size h r.2) : ∀ (n : Nat) (this : Nat) (x2 : Int32) (x3 : Option Nat) (h : Hp) (hx : FXs h) {r : Int32 × Hp}, fX15_content_7 F d R_size n this x2 x3 h = some r → FXs r.2 ∧ EF S_X15_content h r.2 := by
  intro n
  induction n with
  | zero => intro _ _ _ _ _ r hf; cases hf
  | succ n ih =>
    intro this x2 x3 h hx r hf
    unfold fX15_content_7 at hf
    rcases nd_on x3 with e_a1 | ⟨a1, e_a1⟩
    · replace hf := ocN e_a1 hf
      subst e_a1
      cases hf
      exact ⟨hx, (EF.rf (S := S_X15_content) _)⟩
    · replace hf := ocS e_a1 hf
      subst e_a1
      replace hf := bnE hf
      obtain ⟨o3, e_o3, hf⟩ := hf
      replace hf := nnE hf
      obtain ⟨a4, e_a4, hf⟩ := hf
      subst e_a4
      replace hf := caE hf
      obtain ⟨v6, h5, e_h5, hf⟩ := hf
      have q_h5 := EFc (EF.rf (S := S_X15_content) _) (hE_size hx e_h5) (by decide)
      have hx_h5 := q_h5.1
      have ef_h5 := q_h5.2
      replace hf := bnE hf
      obtain ⟨v7, e_v7, hf⟩ := hf
      replace hf := bnE hf
      obtain ⟨o9, e_o9, hf⟩ := hf
      exact EFj ef_h5 (ih _ _ _ _ hx_h5 hf)
set_option maxHeartbeats 4000000 in
theorem eX15_content (F d : Nat) (R_size : Nat → Nat → Hp → Option (Int32 × Hp)) (hE_size : ∀ {b : Nat} {p0 : Nat} {h : Hp} (_ : FXs h) {r : Int32 × Hp}, R_size b p0 h = some r → FXs r.2 ∧ EF SV_size h r.2) {this : Nat} {p0 : Nat} {h : Hp} (hx : FXs h) {r : Int32 × Hp} (hf : fX15_content F d R_size this p0 h = some r) : FXs r.2 ∧ EF S_X15_content h r.2 := by
  unfold fX15_content at hf
  replace hf := bnE hf
  obtain ⟨o2, e_o2, hf⟩ := hf
  exact EFj (EF.rf (S := S_X15_content) _) (eX15_content_7 F d R_size hE_size F _ _ _ _ hx hf)
abbrev S_X15_size : SS := ([], [], [], [], [])
set_option maxHeartbeats 4000000 in
theorem eX15_size (F d : Nat) (R_size : Nat → Nat → Hp → Option (Int32 × Hp)) (hE_size : ∀ {b : Nat} {p0 : Nat} {h : Hp} (_ : FXs h) {r : Int32 × Hp}, R_size b p0 h = some r → FXs r.2 ∧ EF SV_size h r.2) {this : Nat} {p0 : Nat} {h : Hp} (hx : FXs h) {r : Int32 × Hp} (hf : fX15_size F d R_size this p0 h = some r) : FXs r.2 ∧ EF S_X15_size h r.2 := by
  unfold fX15_size at hf
  replace hf := caE hf
  obtain ⟨v2, h1, e_h1, hf⟩ := hf
  have q_h1 := EFc (EF.rf (S := S_X15_size) _) (eX15_content F d R_size hE_size hx e_h1) (by decide)
  have hx_h1 := q_h1.1
  have ef_h1 := q_h1.2
  replace hf := caE hf
  obtain ⟨v4, h3, e_h3, hf⟩ := hf
  have q_h3 := EFc ef_h1 (eX1_headed F d hx_h1 e_h3) (by decide)
  have hx_h3 := q_h3.1
  have ef_h3 := q_h3.2
  cases hf
  exact ⟨hx_h3, ef_h3⟩
set_option maxHeartbeats 4000000 in
theorem ev_content (F d : Nat) {b : Nat} {p0 : Nat} {h : Hp} (hx : FXs h) {r : Int32 × Hp} (hf : v_content F d b p0 h = some r) : FXs r.2 ∧ EF SV_content h r.2 := by
  unfold v_content at hf
  by_cases e_ : nd_Kd b = 6
  · replace hf := ifp e_ hf
    exact EFc (EF.rf (S := SV_content) _) (eX9_content F d hx hf) (by decide)
  replace hf := ifn e_ hf
  by_cases e_ : nd_Kd b = 9
  · replace hf := ifp e_ hf
    exact EFc (EF.rf (S := SV_content) _) (eX13_content F d hx hf) (by decide)
  replace hf := ifn e_ hf
  cases hf
abbrev S_X8_size : SS := ([], [], [], [], [])
set_option maxHeartbeats 4000000 in
theorem eX8_size (F d : Nat) {this : Nat} {p0 : Nat} {h : Hp} (hx : FXs h) {r : Int32 × Hp} (hf : fX8_size F d this p0 h = some r) : FXs r.2 ∧ EF S_X8_size h r.2 := by
  unfold fX8_size at hf
  replace hf := caE hf
  obtain ⟨v2, h1, e_h1, hf⟩ := hf
  have q_h1 := EFc (EF.rf (S := S_X8_size) _) (ev_content F d hx e_h1) (by decide)
  have hx_h1 := q_h1.1
  have ef_h1 := q_h1.2
  replace hf := caE hf
  obtain ⟨v4, h3, e_h3, hf⟩ := hf
  have q_h3 := EFc ef_h1 (eX1_headed F d hx_h1 e_h3) (by decide)
  have hx_h3 := q_h3.1
  have ef_h3 := q_h3.2
  cases hf
  exact ⟨hx_h3, ef_h3⟩
abbrev S_X16_size : SS := ([], [], [], [], [])
set_option maxHeartbeats 4000000 in
theorem eX16_size (F d : Nat) (R_size : Nat → Nat → Hp → Option (Int32 × Hp)) (hE_size : ∀ {b : Nat} {p0 : Nat} {h : Hp} (_ : FXs h) {r : Int32 × Hp}, R_size b p0 h = some r → FXs r.2 ∧ EF SV_size h r.2) {this : Nat} {p0 : Nat} {h : Hp} (hx : FXs h) {r : Int32 × Hp} (hf : fX16_size F d R_size this p0 h = some r) : FXs r.2 ∧ EF S_X16_size h r.2 := by
  unfold fX16_size at hf
  by_cases c1 : (gI h 1601 this) = 0
  · replace hf := ifp c1 hf
    replace hf := nnE hf
    obtain ⟨a3, e_a3, hf⟩ := hf
    replace hf := caE hf
    obtain ⟨v5, h4, e_h4, hf⟩ := hf
    have q_h4 := EFc (EF.rf (S := S_X16_size) _) (hE_size hx e_h4) (by decide)
    have hx_h4 := q_h4.1
    have ef_h4 := q_h4.2
    cases hf
    exact ⟨hx_h4, ef_h4⟩
  · replace hf := ifn c1 hf
    replace hf := nnE hf
    obtain ⟨a7, e_a7, hf⟩ := hf
    replace hf := caE hf
    obtain ⟨v9, h8, e_h8, hf⟩ := hf
    have q_h8 := EFc (EF.rf (S := S_X16_size) _) (hE_size hx e_h8) (by decide)
    have hx_h8 := q_h8.1
    have ef_h8 := q_h8.2
    replace hf := caE hf
    obtain ⟨v11, h10, e_h10, hf⟩ := hf
    have q_h10 := EFc ef_h8 (eX1_headed F d hx_h8 e_h10) (by decide)
    have hx_h10 := q_h10.1
    have ef_h10 := q_h10.2
    cases hf
    exact ⟨hx_h10, ef_h10⟩
set_option maxHeartbeats 4000000 in
theorem ev_size (F : Nat) : ∀ (d : Nat) {b : Nat} {p0 : Nat} {h : Hp} (_ : FXs h) {r : Int32 × Hp}, v_size F d b p0 h = some r → FXs r.2 ∧ EF SV_size h r.2 := by
  intro d
  induction d with
  | zero => intro b p0 h hx r hf; cases hf
  | succ d ih =>
    intro b p0 h hx r hf
    unfold v_size at hf
    by_cases e_ : nd_Kd b = 6
    · replace hf := ifp e_ hf
      exact EFc (EF.rf (S := SV_size) _) (eX8_size F d hx hf) (by decide)
    replace hf := ifn e_ hf
    by_cases e_ : nd_Kd b = 7
    · replace hf := ifp e_ hf
      exact EFc (EF.rf (S := SV_size) _) (eX11_size F d (v_size F d) ih hx hf) (by decide)
    replace hf := ifn e_ hf
    by_cases e_ : nd_Kd b = 8
    · replace hf := ifp e_ hf
      exact EFc (EF.rf (S := SV_size) _) (eX12_size F d (v_size F d) ih hx hf) (by decide)
    replace hf := ifn e_ hf
    by_cases e_ : nd_Kd b = 9
    · replace hf := ifp e_ hf
      exact EFc (EF.rf (S := SV_size) _) (eX8_size F d hx hf) (by decide)
    replace hf := ifn e_ hf
    by_cases e_ : nd_Kd b = 11
    · replace hf := ifp e_ hf
      exact EFc (EF.rf (S := SV_size) _) (eX15_size F d (v_size F d) ih hx hf) (by decide)
    replace hf := ifn e_ hf
    by_cases e_ : nd_Kd b = 12
    · replace hf := ifp e_ hf
      exact EFc (EF.rf (S := SV_size) _) (eX16_size F d (v_size F d) ih hx hf) (by decide)
    replace hf := ifn e_ hf
    cases hf
abbrev S_X11_write : SS := ([501], [], [500], [], [])
set_option maxHeartbeats 4000000 in
theorem eX11_write_64 (F d : Nat) (R_write : Nat → Nat → Nat → Int32 → Hp → Option (Hp)) (hE_write : ∀ {b : Nat} {p0 : Nat} {p1 : Nat} {p2 : Int32} {h : Hp} (_ : FXs h) {r : Hp}, R_write b p0 p1 p2 h = some r → FXs r ∧ EF SV_write h r) (k_27 : Nat → Nat → Nat → Int32 → Hp → Option (Hp)) (hk_27 : ∀ (this : Nat) (x1 : Nat) (x2 : Nat) (x4 : Int32) (h : Hp) (hx : FXs h) {r : Hp}, k_27 this x1 x2 x4 h = some r → FXs r ∧ EF S_X11_write h r) (this : Nat) (x1 : Nat) (x2 : Nat) (x4 : Int32) (h : Hp) (hx : FXs h) {r : Hp} (hf : fX11_write_64 F d R_write k_27 this x1 x2 x4 h = some r) : FXs r ∧ EF S_X11_write h r := by
  unfold fX11_write_64 at hf
  replace hf := bnE hf
  obtain ⟨v1, e_v1, hf⟩ := hf
  exact EFj (EF.rf (S := S_X11_write) _) (hk_27 _ _ _ _ _ hx hf)
set_option maxHeartbeats 4000000 in
theorem eX11_write_27 (F d : Nat) (R_write : Nat → Nat → Nat → Int32 → Hp → Option (Hp)) (hE_write : ∀ {b : Nat} {p0 : Nat} {p1 : Nat} {p2 : Int32} {h : Hp} (_ : FXs h) {r : Hp}, R_write b p0 p1 p2 h = some r → FXs r ∧ EF SV_write h r) : ∀ (n : Nat) (this : Nat) (x1 : Nat) (x2 : Nat) (x4 : Int32) (h : Hp) (hx : FXs h) {r : Hp}, fX11_write_27 F d R_write n this x1 x2 x4 h = some r → FXs r ∧ EF S_X11_write h r := by
  intro n
  induction n with
  | zero => intro _ _ _ _ _ _ r hf; cases hf
  | succ n ih =>
    intro this x1 x2 x4 h hx r hf
    unfold fX11_write_27 at hf
    by_cases c1 : (gI h 1001 this) ≤ x4
    · replace hf := ifp c1 hf
      cases hf
      exact ⟨hx, (EF.rf (S := S_X11_write) _)⟩
    · replace hf := ifn c1 hf
      replace hf := caE hf
      obtain ⟨v3, h2, e_h2, hf⟩ := hf
      have q_h2 := EFc (EF.rf (S := S_X11_write) _) (eX11_isWritten F d hx e_h2) (by decide)
      have hx_h2 := q_h2.1
      have ef_h2 := q_h2.2
      by_cases c4 : v3 = 0
      · replace hf := ifp c4 hf
        exact EFj ef_h2 (eX11_write_64 F d R_write hE_write (fX11_write_27 F d R_write n) ih _ _ _ _ _ hx_h2 hf)
      · replace hf := ifn c4 hf
        replace hf := nnE hf
        obtain ⟨a6, e_a6, hf⟩ := hf
        have sa_a6 := hx_h2 1000 _ _ e_a6
        replace hf := ckE hf
        obtain ⟨c7, hf⟩ := hf
        replace hf := bnE hf
        obtain ⟨o9, e_o9, hf⟩ := hf
        replace hf := caE hf
        obtain ⟨v11, h10, e_h10, hf⟩ := hf
        have q_h10 := EFc ef_h2 (eX17_component F d hx_h2 e_h10) (by decide)
        have hx_h10 := q_h10.1
        have ef_h10 := q_h10.2
        replace hf := nnE hf
        obtain ⟨a13, e_a13, hf⟩ := hf
        subst e_a13
        replace hf := nnE hf
        obtain ⟨a14, e_a14, hf⟩ := hf
        subst e_a14
        replace hf := cvE hf
        obtain ⟨h15, e_h15, hf⟩ := hf
        have q_h15 := EFc ef_h10 (hE_write hx_h10 e_h15) (by decide)
        have hx_h15 := q_h15.1
        have ef_h15 := q_h15.2
        exact EFj ef_h15 (eX11_write_64 F d R_write hE_write (fX11_write_27 F d R_write n) ih _ _ _ _ _ hx_h15 hf)
set_option maxHeartbeats 4000000 in
theorem eX11_write_16 (F d : Nat) (R_write : Nat → Nat → Nat → Int32 → Hp → Option (Hp)) (hE_write : ∀ {b : Nat} {p0 : Nat} {p1 : Nat} {p2 : Int32} {h : Hp} (_ : FXs h) {r : Hp}, R_write b p0 p1 p2 h = some r → FXs r ∧ EF SV_write h r) (this : Nat) (x1 : Nat) (x2 : Nat) (s0 : Nat) (s1 : Int32) (h : Hp) (hx : FXs h) {r : Hp} (hf : fX11_write_16 F d R_write this x1 x2 s0 s1 h = some r) : FXs r ∧ EF S_X11_write h r := by
  unfold fX11_write_16 at hf
  replace hf := caE hf
  obtain ⟨v2, h1, e_h1, hf⟩ := hf
  have q_h1 := EFc (EF.rf (S := S_X11_write) _) (eX11_content F d (v_size F d) (ev_size F d) hx e_h1) (by decide)
  have hx_h1 := q_h1.1
  have ef_h1 := q_h1.2
  replace hf := cvE hf
  obtain ⟨h3, e_h3, hf⟩ := hf
  have q_h3 := EFc ef_h1 (eX5_header F d hx_h1 e_h3) (by decide)
  have hx_h3 := q_h3.1
  have ef_h3 := q_h3.2
  exact EFj ef_h3 (eX11_write_27 F d R_write hE_write F _ _ _ _ _ hx_h3 hf)
set_option maxHeartbeats 4000000 in
theorem eX11_write (F d : Nat) (R_write : Nat → Nat → Nat → Int32 → Hp → Option (Hp)) (hE_write : ∀ {b : Nat} {p0 : Nat} {p1 : Nat} {p2 : Int32} {h : Hp} (_ : FXs h) {r : Hp}, R_write b p0 p1 p2 h = some r → FXs r ∧ EF SV_write h r) {this : Nat} {p0 : Nat} {p1 : Nat} {p2 : Int32} {h : Hp} (hx : FXs h) {r : Hp} (hf : fX11_write F d R_write this p0 p1 p2 h = some r) : FXs r ∧ EF S_X11_write h r := by
  unfold fX11_write at hf
  by_cases c1 : p2 = (-1)
  · replace hf := ifp c1 hf
    exact EFj (EF.rf (S := S_X11_write) _) (eX11_write_16 F d R_write hE_write _ _ _ _ _ _ hx hf)
  · replace hf := ifn c1 hf
    exact EFj (EF.rf (S := S_X11_write) _) (eX11_write_16 F d R_write hE_write _ _ _ _ _ _ hx hf)
abbrev S_X15_add : SS := ([1701, 1703], [1706, 1707, 1708], [], [], [])
set_option maxHeartbeats 4000000 in
theorem eX15_add (F d : Nat) {p0 : Nat} {p1 : Option Nat} {h : Hp} (hx : FXs h) {r : Int32 × Hp} (hf : fX15_add F d p0 p1 h = some r) : FXs r.2 ∧ EF S_X15_add h r.2 := by
  unfold fX15_add at hf
  rcases nd_on p1 with e_a1 | ⟨a1, e_a1⟩
  · replace hf := ocN e_a1 hf
    subst e_a1
    cases hf
    exact ⟨hx, (EF.rf (S := S_X15_add) _)⟩
  · replace hf := ocS e_a1 hf
    subst e_a1
    replace hf := cvE hf
    obtain ⟨h2, e_h2, hf⟩ := hf
    have q_h2 := EFc (EF.rf (S := S_X15_add) _) (eX17_add F d hx e_h2) (by decide)
    have hx_h2 := q_h2.1
    have ef_h2 := q_h2.2
    replace hf := bnE hf
    obtain ⟨h4, e_h4, hf⟩ := hf
    have hx_h4 := FX_sI hx_h2 e_h4
    have ef_h4 := EF_sI ef_h2 e_h4 (by decide)
    cases hf
    exact ⟨hx_h4, ef_h4⟩
abbrev S_X15_pack : SS := ([501], [], [500], [], [])
set_option maxHeartbeats 4000000 in
theorem eX15_pack_17 (F d : Nat) (R_pack : Nat → Nat → Nat → Hp → Option (Hp)) (hE_pack : ∀ {b : Nat} {p0 : Nat} {p1 : Nat} {h : Hp} (_ : FXs h) {r : Hp}, R_pack b p0 p1 h = some r → FXs r ∧ EF SV_pack h r) : ∀ (n : Nat) (this : Nat) (x2 : Nat) (x3 : Option Nat) (h : Hp) (hx : FXs h) {r : Hp}, fX15_pack_17 F d R_pack n this x2 x3 h = some r → FXs r ∧ EF S_X15_pack h r := by
  intro n
  induction n with
  | zero => intro _ _ _ _ _ r hf; cases hf
  | succ n ih =>
    intro this x2 x3 h hx r hf
    unfold fX15_pack_17 at hf
    rcases nd_on x3 with e_a1 | ⟨a1, e_a1⟩
    · replace hf := ocN e_a1 hf
      subst e_a1
      cases hf
      exact ⟨hx, (EF.rf (S := S_X15_pack) _)⟩
    · replace hf := ocS e_a1 hf
      subst e_a1
      replace hf := bnE hf
      obtain ⟨o3, e_o3, hf⟩ := hf
      replace hf := nnE hf
      obtain ⟨a4, e_a4, hf⟩ := hf
      subst e_a4
      replace hf := cvE hf
      obtain ⟨h5, e_h5, hf⟩ := hf
      have q_h5 := EFc (EF.rf (S := S_X15_pack) _) (hE_pack hx e_h5) (by decide)
      have hx_h5 := q_h5.1
      have ef_h5 := q_h5.2
      replace hf := bnE hf
      obtain ⟨o8, e_o8, hf⟩ := hf
      exact EFj ef_h5 (ih _ _ _ _ hx_h5 hf)
set_option maxHeartbeats 4000000 in
theorem eX15_pack (F d : Nat) (R_pack : Nat → Nat → Nat → Hp → Option (Hp)) (hE_pack : ∀ {b : Nat} {p0 : Nat} {p1 : Nat} {h : Hp} (_ : FXs h) {r : Hp}, R_pack b p0 p1 h = some r → FXs r ∧ EF SV_pack h r) {this : Nat} {p0 : Nat} {p1 : Nat} {h : Hp} (hx : FXs h) {r : Hp} (hf : fX15_pack F d R_pack this p0 p1 h = some r) : FXs r ∧ EF S_X15_pack h r := by
  unfold fX15_pack at hf
  replace hf := nnE hf
  obtain ⟨a2, e_a2, hf⟩ := hf
  replace hf := cvE hf
  obtain ⟨h3, e_h3, hf⟩ := hf
  have q_h3 := EFc (EF.rf (S := S_X15_pack) _) (eX14_pack F d hx e_h3) (by decide)
  have hx_h3 := q_h3.1
  have ef_h3 := q_h3.2
  replace hf := bnE hf
  obtain ⟨o6, e_o6, hf⟩ := hf
  exact EFj ef_h3 (eX15_pack_17 F d R_pack hE_pack F _ _ _ _ hx_h3 hf)
abbrev S_X4_isAtEnd : SS := ([], [], [], [], [])
set_option maxHeartbeats 4000000 in
theorem eX4_isAtEnd (F d : Nat) {this : Nat} {h : Hp} (hx : FXs h) {r : Int32 × Hp} (hf : fX4_isAtEnd F d this h = some r) : FXs r.2 ∧ EF S_X4_isAtEnd h r.2 := by
  unfold fX4_isAtEnd at hf
  replace hf := nnE hf
  obtain ⟨a2, e_a2, hf⟩ := hf
  have sa_a2 := hx 405 _ _ e_a2
  replace hf := ckE hf
  obtain ⟨c3, hf⟩ := hf
  by_cases c4 : (gA h a2 (Int32.toNatClampNeg ((gI h 407 this) - 1))) = (-2)
  · replace hf := ifp c4 hf
    by_cases c6 : (gI h 402 this) ≤ (gI h 401 this)
    · replace hf := ifp c6 hf
      cases hf
      exact ⟨hx, (EF.rf (S := S_X4_isAtEnd) _)⟩
    · replace hf := ifn c6 hf
      replace hf := nnE hf
      obtain ⟨a8, e_a8, hf⟩ := hf
      have sa_a8 := hx 400 _ _ e_a8
      replace hf := ckE hf
      obtain ⟨c9, hf⟩ := hf
      by_cases c10 : (gA h a8 (Int32.toNatClampNeg (gI h 401 this))) = 0
      · replace hf := ifp c10 hf
        cases hf
        exact ⟨hx, (EF.rf (S := S_X4_isAtEnd) _)⟩
      · replace hf := ifn c10 hf
        cases hf
        exact ⟨hx, (EF.rf (S := S_X4_isAtEnd) _)⟩
  · replace hf := ifn c4 hf
    by_cases c5 : (gI h 401 this) = (gI h 402 this)
    · replace hf := ifp c5 hf
      cases hf
      exact ⟨hx, (EF.rf (S := S_X4_isAtEnd) _)⟩
    · replace hf := ifn c5 hf
      cases hf
      exact ⟨hx, (EF.rf (S := S_X4_isAtEnd) _)⟩
abbrev S_X15_read : SS := ([303, 304, 401, 402, 407, 1700, 1701, 1702, 1703], [1706, 1707, 1708], [302, 405, 406], [300], [13])
set_option maxHeartbeats 4000000 in
theorem eX15_read_43 (F d : Nat) (R_read : Nat → Nat → Int32 → Hp → Option (Option Nat × Hp)) (hE_read : ∀ {b : Nat} {p0 : Nat} {p1 : Int32} {h : Hp} (_ : FXs h) {r : Option Nat × Hp}, R_read b p0 p1 h = some r → FXs r.2 ∧ EF SV_read h r.2) : ∀ (n : Nat) (this : Nat) (x1 : Nat) (x3 : Nat) (h : Hp) (hx : FXs h) {r : Option Nat × Hp}, fX15_read_43 F d R_read n this x1 x3 h = some r → FXs r.2 ∧ EF S_X15_read h r.2 := by
  intro n
  induction n with
  | zero => intro _ _ _ _ _ r hf; cases hf
  | succ n ih =>
    intro this x1 x3 h hx r hf
    unfold fX15_read_43 at hf
    replace hf := caE hf
    obtain ⟨v2, h1, e_h1, hf⟩ := hf
    have q_h1 := EFc (EF.rf (S := S_X15_read) _) (eX4_isAtEnd F d hx e_h1) (by decide)
    have hx_h1 := q_h1.1
    have ef_h1 := q_h1.2
    by_cases c3 : v2 = 0
    · replace hf := ifp c3 hf
      replace hf := bnE hf
      obtain ⟨o13, e_o13, hf⟩ := hf
      replace hf := nnE hf
      obtain ⟨a14, e_a14, hf⟩ := hf
      subst e_a14
      replace hf := caE hf
      obtain ⟨v16, h15, e_h15, hf⟩ := hf
      have q_h15 := EFc ef_h1 (hE_read hx_h1 e_h15) (by decide)
      have hx_h15 := q_h15.1
      have ef_h15 := q_h15.2
      replace hf := caE hf
      obtain ⟨v19, h18, e_h18, hf⟩ := hf
      have q_h18 := EFc ef_h15 (eX15_add F d hx_h15 e_h18) (by decide)
      have hx_h18 := q_h18.1
      have ef_h18 := q_h18.2
      by_cases c20 : v19 = 0
      · replace hf := ifp c20 hf
        cases hf
        exact ⟨hx_h18, ef_h18⟩
      · replace hf := ifn c20 hf
        exact EFj ef_h18 (ih _ _ _ _ hx_h18 hf)
    · replace hf := ifn c3 hf
      replace hf := caE hf
      obtain ⟨v5, h4, e_h4, hf⟩ := hf
      have q_h4 := EFc ef_h1 (eX4_leave F d hx_h1 e_h4) (by decide)
      have hx_h4 := q_h4.1
      have ef_h4 := q_h4.2
      by_cases c6 : v5 = 0
      · replace hf := ifp c6 hf
        cases hf
        exact ⟨hx_h4, ef_h4⟩
      · replace hf := ifn c6 hf
        replace hf := nnE hf
        obtain ⟨a8, e_a8, hf⟩ := hf
        replace hf := caE hf
        obtain ⟨v10, h9, e_h9, hf⟩ := hf
        have q_h9 := EFc ef_h4 (eX14_holds F d hx_h4 e_h9) (by decide)
        have hx_h9 := q_h9.1
        have ef_h9 := q_h9.2
        by_cases c11 : v10 = 0
        · replace hf := ifp c11 hf
          cases hf
          exact ⟨hx_h9, ef_h9⟩
        · replace hf := ifn c11 hf
          cases hf
          exact ⟨hx_h9, ef_h9⟩
set_option maxHeartbeats 4000000 in
theorem eX15_read_36 (F d : Nat) (R_read : Nat → Nat → Int32 → Hp → Option (Option Nat × Hp)) (hE_read : ∀ {b : Nat} {p0 : Nat} {p1 : Int32} {h : Hp} (_ : FXs h) {r : Option Nat × Hp}, R_read b p0 p1 h = some r → FXs r.2 ∧ EF SV_read h r.2) (this : Nat) (x1 : Nat) (s0 : Option Nat) (h : Hp) (hx : FXs h) {r : Option Nat × Hp} (hf : fX15_read_36 F d R_read this x1 s0 h = some r) : FXs r.2 ∧ EF S_X15_read h r.2 := by
  unfold fX15_read_36 at hf
  rcases nd_on s0 with e_a1 | ⟨a1, e_a1⟩
  · replace hf := ocN e_a1 hf
    subst e_a1
    cases hf
    exact ⟨hx, (EF.rf (S := S_X15_read) _)⟩
  · replace hf := ocS e_a1 hf
    subst e_a1
    exact EFj (EF.rf (S := S_X15_read) _) (eX15_read_43 F d R_read hE_read F _ _ _ _ hx hf)
set_option maxHeartbeats 4000000 in
theorem eX15_read_16 (F d : Nat) (R_read : Nat → Nat → Int32 → Hp → Option (Option Nat × Hp)) (hE_read : ∀ {b : Nat} {p0 : Nat} {p1 : Int32} {h : Hp} (_ : FXs h) {r : Option Nat × Hp}, R_read b p0 p1 h = some r → FXs r.2 ∧ EF SV_read h r.2) (this : Nat) (x1 : Nat) (s0 : Nat) (s1 : Int32) (h : Hp) (hx : FXs h) {r : Option Nat × Hp} (hf : fX15_read_16 F d R_read this x1 s0 s1 h = some r) : FXs r.2 ∧ EF S_X15_read h r.2 := by
  unfold fX15_read_16 at hf
  replace hf := caE hf
  obtain ⟨v2, h1, e_h1, hf⟩ := hf
  have q_h1 := EFc (EF.rf (S := S_X15_read) _) (eX4_enter F d hx e_h1) (by decide)
  have hx_h1 := q_h1.1
  have ef_h1 := q_h1.2
  by_cases c3 : v2 = 0
  · replace hf := ifp c3 hf
    exact EFj ef_h1 (eX15_read_36 F d R_read hE_read _ _ _ _ hx_h1 hf)
  · replace hf := ifn c3 hf
    replace hf := nnE hf
    obtain ⟨a5, e_a5, hf⟩ := hf
    replace hf := caE hf
    obtain ⟨v7, h6, e_h6, hf⟩ := hf
    have q_h6 := EFc ef_h1 (eX3_make F d hx_h1 e_h6) (by decide)
    have hx_h6 := q_h6.1
    have ef_h6 := q_h6.2
    exact EFj ef_h6 (eX15_read_36 F d R_read hE_read _ _ _ _ hx_h6 hf)
set_option maxHeartbeats 4000000 in
theorem eX15_read (F d : Nat) (R_read : Nat → Nat → Int32 → Hp → Option (Option Nat × Hp)) (hE_read : ∀ {b : Nat} {p0 : Nat} {p1 : Int32} {h : Hp} (_ : FXs h) {r : Option Nat × Hp}, R_read b p0 p1 h = some r → FXs r.2 ∧ EF SV_read h r.2) {this : Nat} {p0 : Nat} {p1 : Int32} {h : Hp} (hx : FXs h) {r : Option Nat × Hp} (hf : fX15_read F d R_read this p0 p1 h = some r) : FXs r.2 ∧ EF S_X15_read h r.2 := by
  unfold fX15_read at hf
  by_cases c1 : p1 = (-1)
  · replace hf := ifp c1 hf
    exact EFj (EF.rf (S := S_X15_read) _) (eX15_read_16 F d R_read hE_read _ _ _ _ _ hx hf)
  · replace hf := ifn c1 hf
    exact EFj (EF.rf (S := S_X15_read) _) (eX15_read_16 F d R_read hE_read _ _ _ _ _ hx hf)
abbrev S_X15_unpack : SS := ([303, 304, 403, 1700, 1701, 1702, 1703], [1706, 1707, 1708], [302], [300], [13])
set_option maxHeartbeats 4000000 in
theorem eX15_unpack_45 (F d : Nat) (R_unpack : Nat → Nat → Hp → Option (Option Nat × Hp)) (hE_unpack : ∀ {b : Nat} {p0 : Nat} {h : Hp} (_ : FXs h) {r : Option Nat × Hp}, R_unpack b p0 h = some r → FXs r.2 ∧ EF SV_unpack h r.2) : ∀ (n : Nat) (this : Nat) (x1 : Nat) (x2 : Int32) (x3 : Option Nat) (x4 : Int32) (h : Hp) (hx : FXs h) {r : Option Nat × Hp}, fX15_unpack_45 F d R_unpack n this x1 x2 x3 x4 h = some r → FXs r.2 ∧ EF S_X15_unpack h r.2 := by
  intro n
  induction n with
  | zero => intro _ _ _ _ _ _ _ r hf; cases hf
  | succ n ih =>
    intro this x1 x2 x3 x4 h hx r hf
    unfold fX15_unpack_45 at hf
    by_cases c1 : x2 ≤ x4
    · replace hf := ifp c1 hf
      cases hf
      exact ⟨hx, (EF.rf (S := S_X15_unpack) _)⟩
    · replace hf := ifn c1 hf
      rcases nd_on x3 with e_a2 | ⟨a2, e_a2⟩
      · replace hf := ocN e_a2 hf
        subst e_a2
        cases hf
        exact ⟨hx, (EF.rf (S := S_X15_unpack) _)⟩
      · replace hf := ocS e_a2 hf
        subst e_a2
        replace hf := bnE hf
        obtain ⟨o4, e_o4, hf⟩ := hf
        replace hf := nnE hf
        obtain ⟨a5, e_a5, hf⟩ := hf
        subst e_a5
        replace hf := caE hf
        obtain ⟨v7, h6, e_h6, hf⟩ := hf
        have q_h6 := EFc (EF.rf (S := S_X15_unpack) _) (hE_unpack hx e_h6) (by decide)
        have hx_h6 := q_h6.1
        have ef_h6 := q_h6.2
        replace hf := caE hf
        obtain ⟨v10, h9, e_h9, hf⟩ := hf
        have q_h9 := EFc ef_h6 (eX15_add F d hx_h6 e_h9) (by decide)
        have hx_h9 := q_h9.1
        have ef_h9 := q_h9.2
        by_cases c11 : v10 = 0
        · replace hf := ifp c11 hf
          cases hf
          exact ⟨hx_h9, ef_h9⟩
        · replace hf := ifn c11 hf
          replace hf := bnE hf
          obtain ⟨v12, e_v12, hf⟩ := hf
          exact EFj ef_h9 (ih _ _ _ _ _ _ hx_h9 hf)
set_option maxHeartbeats 4000000 in
theorem eX15_unpack_41 (F d : Nat) (R_unpack : Nat → Nat → Hp → Option (Option Nat × Hp)) (hE_unpack : ∀ {b : Nat} {p0 : Nat} {h : Hp} (_ : FXs h) {r : Option Nat × Hp}, R_unpack b p0 h = some r → FXs r.2 ∧ EF SV_unpack h r.2) (this : Nat) (x1 : Nat) (x2 : Int32) (s0 : Option Nat) (h : Hp) (hx : FXs h) {r : Option Nat × Hp} (hf : fX15_unpack_41 F d R_unpack this x1 x2 s0 h = some r) : FXs r.2 ∧ EF S_X15_unpack h r.2 := by
  unfold fX15_unpack_41 at hf
  exact EFj (EF.rf (S := S_X15_unpack) _) (eX15_unpack_45 F d R_unpack hE_unpack F _ _ _ _ _ _ hx hf)
set_option maxHeartbeats 4000000 in
theorem eX15_unpack_40 (F d : Nat) (R_unpack : Nat → Nat → Hp → Option (Option Nat × Hp)) (hE_unpack : ∀ {b : Nat} {p0 : Nat} {h : Hp} (_ : FXs h) {r : Option Nat × Hp}, R_unpack b p0 h = some r → FXs r.2 ∧ EF SV_unpack h r.2) (this : Nat) (x1 : Nat) (x2 : Int32) (h : Hp) (hx : FXs h) {r : Option Nat × Hp} (hf : fX15_unpack_40 F d R_unpack this x1 x2 h = some r) : FXs r.2 ∧ EF S_X15_unpack h r.2 := by
  unfold fX15_unpack_40 at hf
  exact EFj (EF.rf (S := S_X15_unpack) _) (eX15_unpack_41 F d R_unpack hE_unpack _ _ _ _ _ hx hf)
set_option maxHeartbeats 4000000 in
theorem eX15_unpack (F d : Nat) (R_unpack : Nat → Nat → Hp → Option (Option Nat × Hp)) (hE_unpack : ∀ {b : Nat} {p0 : Nat} {h : Hp} (_ : FXs h) {r : Option Nat × Hp}, R_unpack b p0 h = some r → FXs r.2 ∧ EF SV_unpack h r.2) {this : Nat} {p0 : Nat} {h : Hp} (hx : FXs h) {r : Option Nat × Hp} (hf : fX15_unpack F d R_unpack this p0 h = some r) : FXs r.2 ∧ EF S_X15_unpack h r.2 := by
  unfold fX15_unpack at hf
  replace hf := nnE hf
  obtain ⟨a2, e_a2, hf⟩ := hf
  replace hf := caE hf
  obtain ⟨v4, h3, e_h3, hf⟩ := hf
  have q_h3 := EFc (EF.rf (S := S_X15_unpack) _) (eX14_unpack F d hx e_h3) (by decide)
  have hx_h3 := q_h3.1
  have ef_h3 := q_h3.2
  replace hf := caE hf
  obtain ⟨v6, h5, e_h5, hf⟩ := hf
  have q_h5 := EFc ef_h3 (eX4_isThere F d hx_h3 e_h5) (by decide)
  have hx_h5 := q_h5.1
  have ef_h5 := q_h5.2
  by_cases c7 : v6 = 0
  · replace hf := ifp c7 hf
    exact EFj ef_h5 (eX15_unpack_40 F d R_unpack hE_unpack _ _ _ _ hx_h5 hf)
  · replace hf := ifn c7 hf
    replace hf := nnE hf
    obtain ⟨a9, e_a9, hf⟩ := hf
    replace hf := caE hf
    obtain ⟨v11, h10, e_h10, hf⟩ := hf
    have q_h10 := EFc ef_h5 (eX14_holds F d hx_h5 e_h10) (by decide)
    have hx_h10 := q_h10.1
    have ef_h10 := q_h10.2
    by_cases c12 : v11 = 0
    · replace hf := ifp c12 hf
      exact EFj ef_h10 (eX15_unpack_40 F d R_unpack hE_unpack _ _ _ _ hx_h10 hf)
    · replace hf := ifn c12 hf
      replace hf := nnE hf
      obtain ⟨a14, e_a14, hf⟩ := hf
      replace hf := caE hf
      obtain ⟨v16, h15, e_h15, hf⟩ := hf
      have q_h15 := EFc ef_h10 (eX3_make F d hx_h10 e_h15) (by decide)
      have hx_h15 := q_h15.1
      have ef_h15 := q_h15.2
      exact EFj ef_h15 (eX15_unpack_41 F d R_unpack hE_unpack _ _ _ _ _ hx_h15 hf)
abbrev S_X15_write : SS := ([501], [], [500], [], [])
set_option maxHeartbeats 4000000 in
theorem eX15_write_30 (F d : Nat) (R_write : Nat → Nat → Nat → Int32 → Hp → Option (Hp)) (hE_write : ∀ {b : Nat} {p0 : Nat} {p1 : Nat} {p2 : Int32} {h : Hp} (_ : FXs h) {r : Hp}, R_write b p0 p1 p2 h = some r → FXs r ∧ EF SV_write h r) : ∀ (n : Nat) (this : Nat) (x2 : Nat) (x4 : Option Nat) (h : Hp) (hx : FXs h) {r : Hp}, fX15_write_30 F d R_write n this x2 x4 h = some r → FXs r ∧ EF S_X15_write h r := by
  intro n
  induction n with
  | zero => intro _ _ _ _ _ r hf; cases hf
  | succ n ih =>
    intro this x2 x4 h hx r hf
    unfold fX15_write_30 at hf
    rcases nd_on x4 with e_a1 | ⟨a1, e_a1⟩
    · replace hf := ocN e_a1 hf
      subst e_a1
      cases hf
      exact ⟨hx, (EF.rf (S := S_X15_write) _)⟩
    · replace hf := ocS e_a1 hf
      subst e_a1
      replace hf := bnE hf
      obtain ⟨o3, e_o3, hf⟩ := hf
      replace hf := nnE hf
      obtain ⟨a4, e_a4, hf⟩ := hf
      subst e_a4
      replace hf := cvE hf
      obtain ⟨h5, e_h5, hf⟩ := hf
      have q_h5 := EFc (EF.rf (S := S_X15_write) _) (hE_write hx e_h5) (by decide)
      have hx_h5 := q_h5.1
      have ef_h5 := q_h5.2
      replace hf := bnE hf
      obtain ⟨o8, e_o8, hf⟩ := hf
      exact EFj ef_h5 (ih _ _ _ _ hx_h5 hf)
set_option maxHeartbeats 4000000 in
theorem eX15_write_16 (F d : Nat) (R_write : Nat → Nat → Nat → Int32 → Hp → Option (Hp)) (hE_write : ∀ {b : Nat} {p0 : Nat} {p1 : Nat} {p2 : Int32} {h : Hp} (_ : FXs h) {r : Hp}, R_write b p0 p1 p2 h = some r → FXs r ∧ EF SV_write h r) (this : Nat) (x1 : Nat) (x2 : Nat) (s0 : Nat) (s1 : Int32) (h : Hp) (hx : FXs h) {r : Hp} (hf : fX15_write_16 F d R_write this x1 x2 s0 s1 h = some r) : FXs r ∧ EF S_X15_write h r := by
  unfold fX15_write_16 at hf
  replace hf := caE hf
  obtain ⟨v2, h1, e_h1, hf⟩ := hf
  have q_h1 := EFc (EF.rf (S := S_X15_write) _) (eX15_content F d (v_size F d) (ev_size F d) hx e_h1) (by decide)
  have hx_h1 := q_h1.1
  have ef_h1 := q_h1.2
  replace hf := cvE hf
  obtain ⟨h3, e_h3, hf⟩ := hf
  have q_h3 := EFc ef_h1 (eX5_header F d hx_h1 e_h3) (by decide)
  have hx_h3 := q_h3.1
  have ef_h3 := q_h3.2
  replace hf := bnE hf
  obtain ⟨o6, e_o6, hf⟩ := hf
  exact EFj ef_h3 (eX15_write_30 F d R_write hE_write F _ _ _ _ hx_h3 hf)
set_option maxHeartbeats 4000000 in
theorem eX15_write (F d : Nat) (R_write : Nat → Nat → Nat → Int32 → Hp → Option (Hp)) (hE_write : ∀ {b : Nat} {p0 : Nat} {p1 : Nat} {p2 : Int32} {h : Hp} (_ : FXs h) {r : Hp}, R_write b p0 p1 p2 h = some r → FXs r ∧ EF SV_write h r) {this : Nat} {p0 : Nat} {p1 : Nat} {p2 : Int32} {h : Hp} (hx : FXs h) {r : Hp} (hf : fX15_write F d R_write this p0 p1 p2 h = some r) : FXs r ∧ EF S_X15_write h r := by
  unfold fX15_write at hf
  by_cases c1 : p2 = (-1)
  · replace hf := ifp c1 hf
    exact EFj (EF.rf (S := S_X15_write) _) (eX15_write_16 F d R_write hE_write _ _ _ _ _ _ hx hf)
  · replace hf := ifn c1 hf
    exact EFj (EF.rf (S := S_X15_write) _) (eX15_write_16 F d R_write hE_write _ _ _ _ _ _ hx hf)
set_option maxHeartbeats 4000000 in
theorem ev_readContent (F d : Nat) {b : Nat} {p0 : Nat} {p1 : Int32} {h : Hp} (hx : FXs h) {r : Option Nat × Hp} (hf : v_readContent F d b p0 p1 h = some r) : FXs r.2 ∧ EF SV_readContent h r.2 := by
  unfold v_readContent at hf
  by_cases e_ : nd_Kd b = 6
  · replace hf := ifp e_ hf
    exact EFc (EF.rf (S := SV_readContent) _) (eX9_readContent F d hx hf) (by decide)
  replace hf := ifn e_ hf
  by_cases e_ : nd_Kd b = 9
  · replace hf := ifp e_ hf
    exact EFc (EF.rf (S := SV_readContent) _) (eX13_readContent F d hx hf) (by decide)
  replace hf := ifn e_ hf
  cases hf
abbrev S_X8_read : SS := ([303, 304, 401, 1700, 1701, 1702, 1703], [1706, 1707, 1708], [302], [300], [13])
set_option maxHeartbeats 4000000 in
theorem eX8_read_21 (F d : Nat) (this : Nat) (x1 : Nat) (s0 : Int32) (s1 : Int32) (h : Hp) (hx : FXs h) {r : Option Nat × Hp} (hf : fX8_read_21 F d this x1 s0 s1 h = some r) : FXs r.2 ∧ EF S_X8_read h r.2 := by
  unfold fX8_read_21 at hf
  by_cases c1 : s0 = s1
  · replace hf := ifp c1 hf
    replace hf := caE hf
    obtain ⟨v3, h2, e_h2, hf⟩ := hf
    have q_h2 := EFc (EF.rf (S := S_X8_read) _) (eX4_length F d hx e_h2) (by decide)
    have hx_h2 := q_h2.1
    have ef_h2 := q_h2.2
    by_cases c4 : v3 = (-1)
    · replace hf := ifp c4 hf
      cases hf
      exact ⟨hx_h2, ef_h2⟩
    · replace hf := ifn c4 hf
      replace hf := caE hf
      obtain ⟨v6, h5, e_h5, hf⟩ := hf
      have q_h5 := EFc ef_h2 (ev_readContent F d hx_h2 e_h5) (by decide)
      have hx_h5 := q_h5.1
      have ef_h5 := q_h5.2
      cases hf
      exact ⟨hx_h5, ef_h5⟩
  · replace hf := ifn c1 hf
    cases hf
    exact ⟨hx, (EF.rf (S := S_X8_read) _)⟩
set_option maxHeartbeats 4000000 in
theorem eX8_read (F d : Nat) {this : Nat} {p0 : Nat} {p1 : Int32} {h : Hp} (hx : FXs h) {r : Option Nat × Hp} (hf : fX8_read F d this p0 p1 h = some r) : FXs r.2 ∧ EF S_X8_read h r.2 := by
  unfold fX8_read at hf
  replace hf := caE hf
  obtain ⟨v2, h1, e_h1, hf⟩ := hf
  have q_h1 := EFc (EF.rf (S := S_X8_read) _) (eX4_next F d hx e_h1) (by decide)
  have hx_h1 := q_h1.1
  have ef_h1 := q_h1.2
  by_cases c3 : p1 = (-1)
  · replace hf := ifp c3 hf
    exact EFj ef_h1 (eX8_read_21 F d _ _ _ _ _ hx_h1 hf)
  · replace hf := ifn c3 hf
    exact EFj ef_h1 (eX8_read_21 F d _ _ _ _ _ hx_h1 hf)
set_option maxHeartbeats 4000000 in
theorem ev_writeContent (F d : Nat) {b : Nat} {p0 : Nat} {p1 : Nat} {h : Hp} (hx : FXs h) {r : Hp} (hf : v_writeContent F d b p0 p1 h = some r) : FXs r ∧ EF SV_writeContent h r := by
  unfold v_writeContent at hf
  by_cases e_ : nd_Kd b = 6
  · replace hf := ifp e_ hf
    exact EFc (EF.rf (S := SV_writeContent) _) (eX9_writeContent F d hx hf) (by decide)
  replace hf := ifn e_ hf
  by_cases e_ : nd_Kd b = 9
  · replace hf := ifp e_ hf
    exact EFc (EF.rf (S := SV_writeContent) _) (eX13_writeContent F d hx hf) (by decide)
  replace hf := ifn e_ hf
  cases hf
abbrev S_X8_write : SS := ([501], [], [500], [], [])
set_option maxHeartbeats 4000000 in
theorem eX8_write_18 (F d : Nat) (this : Nat) (x1 : Nat) (x2 : Nat) (s0 : Nat) (s1 : Int32) (h : Hp) (hx : FXs h) {r : Hp} (hf : fX8_write_18 F d this x1 x2 s0 s1 h = some r) : FXs r ∧ EF S_X8_write h r := by
  unfold fX8_write_18 at hf
  replace hf := caE hf
  obtain ⟨v2, h1, e_h1, hf⟩ := hf
  have q_h1 := EFc (EF.rf (S := S_X8_write) _) (ev_content F d hx e_h1) (by decide)
  have hx_h1 := q_h1.1
  have ef_h1 := q_h1.2
  replace hf := cvE hf
  obtain ⟨h3, e_h3, hf⟩ := hf
  have q_h3 := EFc ef_h1 (eX5_header F d hx_h1 e_h3) (by decide)
  have hx_h3 := q_h3.1
  have ef_h3 := q_h3.2
  replace hf := cvE hf
  obtain ⟨h5, e_h5, hf⟩ := hf
  have q_h5 := EFc ef_h3 (ev_writeContent F d hx_h3 e_h5) (by decide)
  have hx_h5 := q_h5.1
  have ef_h5 := q_h5.2
  cases hf
  exact ⟨hx_h5, ef_h5⟩
set_option maxHeartbeats 4000000 in
theorem eX8_write (F d : Nat) {this : Nat} {p0 : Nat} {p1 : Nat} {p2 : Int32} {h : Hp} (hx : FXs h) {r : Hp} (hf : fX8_write F d this p0 p1 p2 h = some r) : FXs r ∧ EF S_X8_write h r := by
  unfold fX8_write at hf
  by_cases c1 : p2 = (-1)
  · replace hf := ifp c1 hf
    exact EFj (EF.rf (S := S_X8_write) _) (eX8_write_18 F d _ _ _ _ _ _ hx hf)
  · replace hf := ifn c1 hf
    exact EFj (EF.rf (S := S_X8_write) _) (eX8_write_18 F d _ _ _ _ _ _ hx hf)
abbrev S_X4_begin : SS := ([401, 402, 403, 407], [400, 404], [], [], [])
set_option maxHeartbeats 4000000 in
theorem eX4_begin (F d : Nat) {this : Nat} {p0 : Nat} {p1 : Int32} {p2 : Int32} {p3 : Nat} {h : Hp} (hx : FXs h) {r : Hp} (hf : fX4_begin F d this p0 p1 p2 p3 h = some r) : FXs r ∧ EF S_X4_begin h r := by
  unfold fX4_begin at hf
  replace hf := bnE hf
  obtain ⟨h1, e_h1, hf⟩ := hf
  have hx_h1 := FX_sP hx e_h1 (fun b e => rfl)
  have ef_h1 := EF_sP (EF.rf (S := S_X4_begin) _) e_h1 (by decide)
  replace hf := bnE hf
  obtain ⟨h2, e_h2, hf⟩ := hf
  have hx_h2 := FX_sI hx_h1 e_h2
  have ef_h2 := EF_sI ef_h1 e_h2 (by decide)
  replace hf := bnE hf
  obtain ⟨h3, e_h3, hf⟩ := hf
  have hx_h3 := FX_sI hx_h2 e_h3
  have ef_h3 := EF_sI ef_h2 e_h3 (by decide)
  replace hf := bnE hf
  obtain ⟨h4, e_h4, hf⟩ := hf
  have hx_h4 := FX_sI hx_h3 e_h4
  have ef_h4 := EF_sI ef_h3 e_h4 (by decide)
  replace hf := bnE hf
  obtain ⟨h5, e_h5, hf⟩ := hf
  have hx_h5 := FX_sP hx_h4 e_h5 (fun b e => rfl)
  have ef_h5 := EF_sP ef_h4 e_h5 (by decide)
  replace hf := bnE hf
  obtain ⟨h6, e_h6, hf⟩ := hf
  have hx_h6 := FX_sI hx_h5 e_h6
  have ef_h6 := EF_sI ef_h5 e_h6 (by decide)
  cases hf
  exact ⟨hx_h6, ef_h6⟩
abbrev S_X3_arrange : SS := ([305, 1704, 1705], [], [], [301], [])
set_option maxHeartbeats 4000000 in
theorem eX3_arrange_38 (F d : Nat) (R_arrange : Nat → Nat → Int32 → Hp → Option (Hp)) (hE_arrange : ∀ {p0 : Nat} {p1 : Nat} {p2 : Int32} {h : Hp} (_ : FXs h) {r : Hp}, R_arrange p0 p1 p2 h = some r → FXs r ∧ EF SV_arrange h r) : ∀ (n : Nat) (x0 : Nat) (x1 : Nat) (x3 : Option Nat) (h : Hp) (hx : FXs h) {r : Hp}, fX3_arrange_38 F d R_arrange n x0 x1 x3 h = some r → FXs r ∧ EF S_X3_arrange h r := by
  intro n
  induction n with
  | zero => intro _ _ _ _ _ r hf; cases hf
  | succ n ih =>
    intro x0 x1 x3 h hx r hf
    unfold fX3_arrange_38 at hf
    rcases nd_on x3 with e_a1 | ⟨a1, e_a1⟩
    · replace hf := ocN e_a1 hf
      subst e_a1
      cases hf
      exact ⟨hx, (EF.rf (S := S_X3_arrange) _)⟩
    · replace hf := ocS e_a1 hf
      subst e_a1
      replace hf := cvE hf
      obtain ⟨h2, e_h2, hf⟩ := hf
      have q_h2 := EFc (EF.rf (S := S_X3_arrange) _) (hE_arrange hx e_h2) (by decide)
      have hx_h2 := q_h2.1
      have ef_h2 := q_h2.2
      replace hf := bnE hf
      obtain ⟨o5, e_o5, hf⟩ := hf
      exact EFj ef_h2 (ih _ _ _ _ hx_h2 hf)
set_option maxHeartbeats 4000000 in
theorem eX3_arrange (F d : Nat) (R_arrange : Nat → Nat → Int32 → Hp → Option (Hp)) (hE_arrange : ∀ {p0 : Nat} {p1 : Nat} {p2 : Int32} {h : Hp} (_ : FXs h) {r : Hp}, R_arrange p0 p1 p2 h = some r → FXs r ∧ EF SV_arrange h r) {p0 : Nat} {p1 : Nat} {p2 : Int32} {h : Hp} (hx : FXs h) {r : Hp} (hf : fX3_arrange F d R_arrange p0 p1 p2 h = some r) : FXs r ∧ EF S_X3_arrange h r := by
  unfold fX3_arrange at hf
  replace hf := bnE hf
  obtain ⟨h1, e_h1, hf⟩ := hf
  have hx_h1 := FX_sI hx e_h1
  have ef_h1 := EF_sI (EF.rf (S := S_X3_arrange) _) e_h1 (by decide)
  replace hf := bnE hf
  obtain ⟨h2, e_h2, hf⟩ := hf
  have hx_h2 := FX_sI hx_h1 e_h2
  have ef_h2 := EF_sI ef_h1 e_h2 (by decide)
  replace hf := nnE hf
  obtain ⟨a4, e_a4, hf⟩ := hf
  have sa_a4 := hx_h2 301 _ _ e_a4
  replace hf := ckE hf
  obtain ⟨c5, hf⟩ := hf
  replace hf := bnE hf
  obtain ⟨h6, e_h6, hf⟩ := hf
  have hx_h6 := FX_sR hx_h2 e_h6
  have ef_h6 := EF_sR ef_h2 e_h6 (f := 301) (by decide) sa_a4
  replace hf := bnE hf
  obtain ⟨h7, e_h7, hf⟩ := hf
  have hx_h7 := FX_sI hx_h6 e_h7
  have ef_h7 := EF_sI ef_h6 e_h7 (by decide)
  replace hf := bnE hf
  obtain ⟨o9, e_o9, hf⟩ := hf
  exact EFj ef_h7 (eX3_arrange_38 F d R_arrange hE_arrange F _ _ _ _ hx_h7 hf)
abbrev S_X3_clear : SS := ([303, 304, 305], [], [], [], [])
set_option maxHeartbeats 4000000 in
theorem eX3_clear (F d : Nat) {this : Nat} {h : Hp} (hx : FXs h) {r : Hp} (hf : fX3_clear F d this h = some r) : FXs r ∧ EF S_X3_clear h r := by
  unfold fX3_clear at hf
  replace hf := bnE hf
  obtain ⟨h1, e_h1, hf⟩ := hf
  have hx_h1 := FX_sI hx e_h1
  have ef_h1 := EF_sI (EF.rf (S := S_X3_clear) _) e_h1 (by decide)
  replace hf := bnE hf
  obtain ⟨h2, e_h2, hf⟩ := hf
  have hx_h2 := FX_sI hx_h1 e_h2
  have ef_h2 := EF_sI ef_h1 e_h2 (by decide)
  replace hf := bnE hf
  obtain ⟨h3, e_h3, hf⟩ := hf
  have hx_h3 := FX_sI hx_h2 e_h3
  have ef_h3 := EF_sI ef_h2 e_h3 (by decide)
  cases hf
  exact ⟨hx_h3, ef_h3⟩
abbrev S_X16_pack : SS := ([501], [], [500], [], [])
set_option maxHeartbeats 4000000 in
theorem eX16_pack (F d : Nat) (R_pack : Nat → Nat → Nat → Hp → Option (Hp)) (hE_pack : ∀ {b : Nat} {p0 : Nat} {p1 : Nat} {h : Hp} (_ : FXs h) {r : Hp}, R_pack b p0 p1 h = some r → FXs r ∧ EF SV_pack h r) {this : Nat} {p0 : Nat} {p1 : Nat} {h : Hp} (hx : FXs h) {r : Hp} (hf : fX16_pack F d R_pack this p0 p1 h = some r) : FXs r ∧ EF S_X16_pack h r := by
  unfold fX16_pack at hf
  replace hf := nnE hf
  obtain ⟨a2, e_a2, hf⟩ := hf
  replace hf := cvE hf
  obtain ⟨h3, e_h3, hf⟩ := hf
  have q_h3 := EFc (EF.rf (S := S_X16_pack) _) (hE_pack hx e_h3) (by decide)
  have hx_h3 := q_h3.1
  have ef_h3 := q_h3.2
  cases hf
  exact ⟨hx_h3, ef_h3⟩
abbrev S_X16_read : SS := ([303, 304, 401, 402, 407, 1700, 1701, 1702, 1703], [1706, 1707, 1708], [302, 405, 406], [300], [13])
set_option maxHeartbeats 4000000 in
theorem eX16_read_56 (F d : Nat) (R_read : Nat → Nat → Int32 → Hp → Option (Option Nat × Hp)) (hE_read : ∀ {b : Nat} {p0 : Nat} {p1 : Int32} {h : Hp} (_ : FXs h) {r : Option Nat × Hp}, R_read b p0 p1 h = some r → FXs r.2 ∧ EF SV_read h r.2) (x1 : Nat) (s0 : Option Nat) (h : Hp) (hx : FXs h) {r : Option Nat × Hp} (hf : fX16_read_56 F d R_read x1 s0 h = some r) : FXs r.2 ∧ EF S_X16_read h r.2 := by
  unfold fX16_read_56 at hf
  rcases nd_on s0 with e_a1 | ⟨a1, e_a1⟩
  · replace hf := ocN e_a1 hf
    subst e_a1
    cases hf
    exact ⟨hx, (EF.rf (S := S_X16_read) _)⟩
  · replace hf := ocS e_a1 hf
    subst e_a1
    replace hf := caE hf
    obtain ⟨v3, h2, e_h2, hf⟩ := hf
    have q_h2 := EFc (EF.rf (S := S_X16_read) _) (eX4_leave F d hx e_h2) (by decide)
    have hx_h2 := q_h2.1
    have ef_h2 := q_h2.2
    by_cases c4 : v3 = 0
    · replace hf := ifp c4 hf
      cases hf
      exact ⟨hx_h2, ef_h2⟩
    · replace hf := ifn c4 hf
      cases hf
      exact ⟨hx_h2, ef_h2⟩
set_option maxHeartbeats 4000000 in
theorem eX16_read_13 (F d : Nat) (R_read : Nat → Nat → Int32 → Hp → Option (Option Nat × Hp)) (hE_read : ∀ {b : Nat} {p0 : Nat} {p1 : Int32} {h : Hp} (_ : FXs h) {r : Option Nat × Hp}, R_read b p0 p1 h = some r → FXs r.2 ∧ EF SV_read h r.2) (this : Nat) (x1 : Nat) (s0 : Int32) (h : Hp) (hx : FXs h) {r : Option Nat × Hp} (hf : fX16_read_13 F d R_read this x1 s0 h = some r) : FXs r.2 ∧ EF S_X16_read h r.2 := by
  unfold fX16_read_13 at hf
  by_cases c1 : (gI h 1601 this) = 0
  · replace hf := ifp c1 hf
    replace hf := nnE hf
    obtain ⟨a11, e_a11, hf⟩ := hf
    replace hf := caE hf
    obtain ⟨v13, h12, e_h12, hf⟩ := hf
    have q_h12 := EFc (EF.rf (S := S_X16_read) _) (hE_read hx e_h12) (by decide)
    have hx_h12 := q_h12.1
    have ef_h12 := q_h12.2
    cases hf
    exact ⟨hx_h12, ef_h12⟩
  · replace hf := ifn c1 hf
    replace hf := caE hf
    obtain ⟨v3, h2, e_h2, hf⟩ := hf
    have q_h2 := EFc (EF.rf (S := S_X16_read) _) (eX4_enter F d hx e_h2) (by decide)
    have hx_h2 := q_h2.1
    have ef_h2 := q_h2.2
    by_cases c4 : v3 = 0
    · replace hf := ifp c4 hf
      exact EFj ef_h2 (eX16_read_56 F d R_read hE_read _ _ _ hx_h2 hf)
    · replace hf := ifn c4 hf
      replace hf := nnE hf
      obtain ⟨a6, e_a6, hf⟩ := hf
      replace hf := caE hf
      obtain ⟨v8, h7, e_h7, hf⟩ := hf
      have q_h7 := EFc ef_h2 (hE_read hx_h2 e_h7) (by decide)
      have hx_h7 := q_h7.1
      have ef_h7 := q_h7.2
      exact EFj ef_h7 (eX16_read_56 F d R_read hE_read _ _ _ hx_h7 hf)
set_option maxHeartbeats 4000000 in
theorem eX16_read (F d : Nat) (R_read : Nat → Nat → Int32 → Hp → Option (Option Nat × Hp)) (hE_read : ∀ {b : Nat} {p0 : Nat} {p1 : Int32} {h : Hp} (_ : FXs h) {r : Option Nat × Hp}, R_read b p0 p1 h = some r → FXs r.2 ∧ EF SV_read h r.2) {this : Nat} {p0 : Nat} {p1 : Int32} {h : Hp} (hx : FXs h) {r : Option Nat × Hp} (hf : fX16_read F d R_read this p0 p1 h = some r) : FXs r.2 ∧ EF S_X16_read h r.2 := by
  unfold fX16_read at hf
  by_cases c1 : p1 = (-1)
  · replace hf := ifp c1 hf
    exact EFj (EF.rf (S := S_X16_read) _) (eX16_read_13 F d R_read hE_read _ _ _ _ hx hf)
  · replace hf := ifn c1 hf
    exact EFj (EF.rf (S := S_X16_read) _) (eX16_read_13 F d R_read hE_read _ _ _ _ hx hf)
abbrev S_X16_unpack : SS := ([303, 304, 403, 1700, 1701, 1702, 1703], [1706, 1707, 1708], [302], [300], [13])
set_option maxHeartbeats 4000000 in
theorem eX16_unpack (F d : Nat) (R_unpack : Nat → Nat → Hp → Option (Option Nat × Hp)) (hE_unpack : ∀ {b : Nat} {p0 : Nat} {h : Hp} (_ : FXs h) {r : Option Nat × Hp}, R_unpack b p0 h = some r → FXs r.2 ∧ EF SV_unpack h r.2) {this : Nat} {p0 : Nat} {h : Hp} (hx : FXs h) {r : Option Nat × Hp} (hf : fX16_unpack F d R_unpack this p0 h = some r) : FXs r.2 ∧ EF S_X16_unpack h r.2 := by
  unfold fX16_unpack at hf
  replace hf := nnE hf
  obtain ⟨a2, e_a2, hf⟩ := hf
  replace hf := caE hf
  obtain ⟨v4, h3, e_h3, hf⟩ := hf
  have q_h3 := EFc (EF.rf (S := S_X16_unpack) _) (hE_unpack hx e_h3) (by decide)
  have hx_h3 := q_h3.1
  have ef_h3 := q_h3.2
  cases hf
  exact ⟨hx_h3, ef_h3⟩
abbrev S_X16_write : SS := ([501], [], [500], [], [])
set_option maxHeartbeats 4000000 in
theorem eX16_write_59 (F d : Nat) (R_write : Nat → Nat → Nat → Int32 → Hp → Option (Hp)) (hE_write : ∀ {b : Nat} {p0 : Nat} {p1 : Nat} {p2 : Int32} {h : Hp} (_ : FXs h) {r : Hp}, R_write b p0 p1 p2 h = some r → FXs r ∧ EF SV_write h r) (s0 : Nat) (s1 : Nat) (s2 : Nat) (s3 : Int32) (h : Hp) (hx : FXs h) {r : Hp} (hf : fX16_write_59 F d R_write s0 s1 s2 s3 h = some r) : FXs r ∧ EF S_X16_write h r := by
  unfold fX16_write_59 at hf
  replace hf := cvE hf
  obtain ⟨h1, e_h1, hf⟩ := hf
  have q_h1 := EFc (EF.rf (S := S_X16_write) _) (hE_write hx e_h1) (by decide)
  have hx_h1 := q_h1.1
  have ef_h1 := q_h1.2
  cases hf
  exact ⟨hx_h1, ef_h1⟩
set_option maxHeartbeats 4000000 in
theorem eX16_write_40 (F d : Nat) (R_write : Nat → Nat → Nat → Int32 → Hp → Option (Hp)) (hE_write : ∀ {b : Nat} {p0 : Nat} {p1 : Nat} {p2 : Int32} {h : Hp} (_ : FXs h) {r : Hp}, R_write b p0 p1 p2 h = some r → FXs r ∧ EF SV_write h r) (this : Nat) (x1 : Nat) (x2 : Nat) (x4 : Int32) (h : Hp) (hx : FXs h) {r : Hp} (hf : fX16_write_40 F d R_write this x1 x2 x4 h = some r) : FXs r ∧ EF S_X16_write h r := by
  unfold fX16_write_40 at hf
  replace hf := nnE hf
  obtain ⟨a2, e_a2, hf⟩ := hf
  by_cases c3 : (gI h 1601 this) = 0
  · replace hf := ifp c3 hf
    exact EFj (EF.rf (S := S_X16_write) _) (eX16_write_59 F d R_write hE_write _ _ _ _ _ hx hf)
  · replace hf := ifn c3 hf
    exact EFj (EF.rf (S := S_X16_write) _) (eX16_write_59 F d R_write hE_write _ _ _ _ _ hx hf)
set_option maxHeartbeats 4000000 in
theorem eX16_write_13 (F d : Nat) (R_write : Nat → Nat → Nat → Int32 → Hp → Option (Hp)) (hE_write : ∀ {b : Nat} {p0 : Nat} {p1 : Nat} {p2 : Int32} {h : Hp} (_ : FXs h) {r : Hp}, R_write b p0 p1 p2 h = some r → FXs r ∧ EF SV_write h r) (this : Nat) (x1 : Nat) (x2 : Nat) (s0 : Int32) (h : Hp) (hx : FXs h) {r : Hp} (hf : fX16_write_13 F d R_write this x1 x2 s0 h = some r) : FXs r ∧ EF S_X16_write h r := by
  unfold fX16_write_13 at hf
  by_cases c1 : (gI h 1601 this) = 0
  · replace hf := ifp c1 hf
    exact EFj (EF.rf (S := S_X16_write) _) (eX16_write_40 F d R_write hE_write _ _ _ _ _ hx hf)
  · replace hf := ifn c1 hf
    replace hf := nnE hf
    obtain ⟨a3, e_a3, hf⟩ := hf
    replace hf := caE hf
    obtain ⟨v5, h4, e_h4, hf⟩ := hf
    have q_h4 := EFc (EF.rf (S := S_X16_write) _) (ev_size F d hx e_h4) (by decide)
    have hx_h4 := q_h4.1
    have ef_h4 := q_h4.2
    replace hf := cvE hf
    obtain ⟨h6, e_h6, hf⟩ := hf
    have q_h6 := EFc ef_h4 (eX5_header F d hx_h4 e_h6) (by decide)
    have hx_h6 := q_h6.1
    have ef_h6 := q_h6.2
    exact EFj ef_h6 (eX16_write_40 F d R_write hE_write _ _ _ _ _ hx_h6 hf)
set_option maxHeartbeats 4000000 in
theorem eX16_write (F d : Nat) (R_write : Nat → Nat → Nat → Int32 → Hp → Option (Hp)) (hE_write : ∀ {b : Nat} {p0 : Nat} {p1 : Nat} {p2 : Int32} {h : Hp} (_ : FXs h) {r : Hp}, R_write b p0 p1 p2 h = some r → FXs r ∧ EF SV_write h r) {this : Nat} {p0 : Nat} {p1 : Nat} {p2 : Int32} {h : Hp} (hx : FXs h) {r : Hp} (hf : fX16_write F d R_write this p0 p1 p2 h = some r) : FXs r ∧ EF S_X16_write h r := by
  unfold fX16_write at hf
  by_cases c1 : p2 = (-1)
  · replace hf := ifp c1 hf
    exact EFj (EF.rf (S := S_X16_write) _) (eX16_write_13 F d R_write hE_write _ _ _ _ _ hx hf)
  · replace hf := ifn c1 hf
    exact EFj (EF.rf (S := S_X16_write) _) (eX16_write_13 F d R_write hE_write _ _ _ _ _ hx hf)
abbrev S_X5_begin : SS := ([501], [502], [], [], [])
set_option maxHeartbeats 4000000 in
theorem eX5_begin (F d : Nat) {this : Nat} {p0 : Nat} {h : Hp} (hx : FXs h) {r : Hp} (hf : fX5_begin F d this p0 h = some r) : FXs r ∧ EF S_X5_begin h r := by
  unfold fX5_begin at hf
  replace hf := bnE hf
  obtain ⟨h1, e_h1, hf⟩ := hf
  have hx_h1 := FX_sI hx e_h1
  have ef_h1 := EF_sI (EF.rf (S := S_X5_begin) _) e_h1 (by decide)
  replace hf := bnE hf
  obtain ⟨h2, e_h2, hf⟩ := hf
  have hx_h2 := FX_sP hx_h1 e_h2 (fun b e => rfl)
  have ef_h2 := EF_sP ef_h1 e_h2 (by decide)
  cases hf
  exact ⟨hx_h2, ef_h2⟩
abbrev S_X1_forget : SS := ([101, 303, 304, 305], [], [111], [108], [])
set_option maxHeartbeats 4000000 in
theorem eX1_forget_35 (F d : Nat) : ∀ (n : Nat) (this : Nat) (x1 : Int32) (h : Hp) (hx : FXs h) {r : Hp}, fX1_forget_35 F d n this x1 h = some r → FXs r ∧ EF S_X1_forget h r := by
  intro n
  induction n with
  | zero => intro _ _ _ _ r hf; cases hf
  | succ n ih =>
    intro this x1 h hx r hf
    unfold fX1_forget_35 at hf
    replace hf := nnE hf
    obtain ⟨a2, e_a2, hf⟩ := hf
    have sa_a2 := hx 111 _ _ e_a2
    by_cases c3 : (Int32.ofNat (nd_Ln a2)) ≤ x1
    · replace hf := ifp c3 hf
      cases hf
      exact ⟨hx, (EF.rf (S := S_X1_forget) _)⟩
    · replace hf := ifn c3 hf
      replace hf := nnE hf
      obtain ⟨a5, e_a5, hf⟩ := hf
      have sa_a5 := hx 111 _ _ e_a5
      replace hf := ckE hf
      obtain ⟨c6, hf⟩ := hf
      replace hf := bnE hf
      obtain ⟨h7, e_h7, hf⟩ := hf
      have hx_h7 := FX_sA hx e_h7
      have ef_h7 := EF_sA (EF.rf (S := S_X1_forget) _) e_h7 (f := 111) (by decide) sa_a5
      replace hf := bnE hf
      obtain ⟨v8, e_v8, hf⟩ := hf
      exact EFj ef_h7 (ih _ _ _ hx_h7 hf)
set_option maxHeartbeats 4000000 in
theorem eX1_forget_14 (F d : Nat) : ∀ (n : Nat) (this : Nat) (x1 : Int32) (h : Hp) (hx : FXs h) {r : Hp}, fX1_forget_14 F d n this x1 h = some r → FXs r ∧ EF S_X1_forget h r := by
  intro n
  induction n with
  | zero => intro _ _ _ _ r hf; cases hf
  | succ n ih =>
    intro this x1 h hx r hf
    unfold fX1_forget_14 at hf
    by_cases c1 : 8 ≤ x1
    · replace hf := ifp c1 hf
      exact EFj (EF.rf (S := S_X1_forget) _) (eX1_forget_35 F d F _ _ _ hx hf)
    · replace hf := ifn c1 hf
      replace hf := nnE hf
      obtain ⟨a3, e_a3, hf⟩ := hf
      have sa_a3 := hx 108 _ _ e_a3
      replace hf := ckE hf
      obtain ⟨c4, hf⟩ := hf
      replace hf := bnE hf
      obtain ⟨h5, e_h5, hf⟩ := hf
      have hx_h5 := FX_sR hx e_h5
      have ef_h5 := EF_sR (EF.rf (S := S_X1_forget) _) e_h5 (f := 108) (by decide) sa_a3
      replace hf := bnE hf
      obtain ⟨v6, e_v6, hf⟩ := hf
      exact EFj ef_h5 (ih _ _ _ hx_h5 hf)
set_option maxHeartbeats 4000000 in
theorem eX1_forget (F d : Nat) {this : Nat} {h : Hp} (hx : FXs h) {r : Hp} (hf : fX1_forget F d this h = some r) : FXs r ∧ EF S_X1_forget h r := by
  unfold fX1_forget at hf
  replace hf := bnE hf
  obtain ⟨h1, e_h1, hf⟩ := hf
  have hx_h1 := FX_sI hx e_h1
  have ef_h1 := EF_sI (EF.rf (S := S_X1_forget) _) e_h1 (by decide)
  replace hf := nnE hf
  obtain ⟨a3, e_a3, hf⟩ := hf
  replace hf := cvE hf
  obtain ⟨h4, e_h4, hf⟩ := hf
  have q_h4 := EFc ef_h1 (eX3_clear F d hx_h1 e_h4) (by decide)
  have hx_h4 := q_h4.1
  have ef_h4 := q_h4.2
  exact EFj ef_h4 (eX1_forget_14 F d F _ _ _ hx_h4 hf)
abbrev S_X1_clear : SS := ([101, 201, 303, 304, 305], [], [111], [108], [])
set_option maxHeartbeats 4000000 in
theorem eX1_clear (F d : Nat) {this : Nat} {h : Hp} (hx : FXs h) {r : Int32 × Hp} (hf : fX1_clear F d this h = some r) : FXs r.2 ∧ EF S_X1_clear h r.2 := by
  unfold fX1_clear at hf
  replace hf := nnE hf
  obtain ⟨a2, e_a2, hf⟩ := hf
  replace hf := bnE hf
  obtain ⟨v3, e_v3, hf⟩ := hf
  replace hf := nnE hf
  obtain ⟨a5, e_a5, hf⟩ := hf
  replace hf := bnE hf
  obtain ⟨h6, e_h6, hf⟩ := hf
  have hx_h6 := FX_sI hx e_h6
  have ef_h6 := EF_sI (EF.rf (S := S_X1_clear) _) e_h6 (by decide)
  replace hf := cvE hf
  obtain ⟨h7, e_h7, hf⟩ := hf
  have q_h7 := EFc ef_h6 (eX1_forget F d hx_h6 e_h7) (by decide)
  have hx_h7 := q_h7.1
  have ef_h7 := q_h7.2
  cases hf
  exact ⟨hx_h7, ef_h7⟩
abbrev S_X1_compile : SS := ([101, 202, 203, 212, 213, 214, 303, 304, 305, 800, 900, 901, 902, 903, 1001, 1400, 1401, 1402, 1600, 1601], [1000, 1100, 1101, 1300, 1500, 1501, 1602], [111, 211, 1100, 1101], [108, 204, 205, 206, 207, 208, 209, 210, 1000], [6, 7, 8, 9, 10, 11, 12, 20, 24])
set_option maxHeartbeats 4000000 in
theorem eX1_compile (F d : Nat) {this : Nat} {h : Hp} (hx : FXs h) {r : Int32 × Hp} (hf : fX1_compile F d this h = some r) : FXs r.2 ∧ EF S_X1_compile h r.2 := by
  unfold fX1_compile at hf
  replace hf := cvE hf
  obtain ⟨h1, e_h1, hf⟩ := hf
  have q_h1 := EFc (EF.rf (S := S_X1_compile) _) (eX1_forget F d hx e_h1) (by decide)
  have hx_h1 := q_h1.1
  have ef_h1 := q_h1.2
  replace hf := nnE hf
  obtain ⟨a4, e_a4, hf⟩ := hf
  replace hf := caE hf
  obtain ⟨v6, h5, e_h5, hf⟩ := hf
  have q_h5 := EFc ef_h1 (eX2_run F d hx_h1 e_h5) (by decide)
  have hx_h5 := q_h5.1
  have ef_h5 := q_h5.2
  replace hf := ckE hf
  obtain ⟨c8, hf⟩ := hf
  replace hf := bnE hf
  obtain ⟨h7, e_h7, hf⟩ := hf
  have hx_h7 := FX_sI hx_h5 e_h7
  have ef_h7 := EF_sI ef_h5 e_h7 (by decide)
  by_cases c9 : (gI h7 101 this) = 0
  · replace hf := ifp c9 hf
    replace hf := nnE hf
    obtain ⟨a11, e_a11, hf⟩ := hf
    cases hf
    exact ⟨hx_h7, ef_h7⟩
  · replace hf := ifn c9 hf
    cases hf
    exact ⟨hx_h7, ef_h7⟩
set_option maxHeartbeats 4000000 in
theorem ev_arrange (F : Nat) : ∀ (d : Nat) {p0 : Nat} {p1 : Nat} {p2 : Int32} {h : Hp} (_ : FXs h) {r : Hp}, v_arrange F d p0 p1 p2 h = some r → FXs r ∧ EF SV_arrange h r := by
  intro d
  induction d with
  | zero => intro p0 p1 p2 h hx r hf; cases hf
  | succ d ih =>
    intro p0 p1 p2 h hx r hf
    unfold v_arrange at hf
    exact EFc (EF.rf (S := SV_arrange) _) (eX3_arrange F d (v_arrange F d) ih hx hf) (by decide)
abbrev S_X1_keep : SS := ([305, 1704, 1705], [104, 105], [], [301], [])
set_option maxHeartbeats 4000000 in
theorem eX1_keep (F d : Nat) {this : Nat} {p0 : Nat} {h : Hp} (hx : FXs h) {r : Hp} (hf : fX1_keep F d this p0 h = some r) : FXs r ∧ EF S_X1_keep h r := by
  unfold fX1_keep at hf
  replace hf := nnE hf
  obtain ⟨a2, e_a2, hf⟩ := hf
  replace hf := nnE hf
  obtain ⟨a4, e_a4, hf⟩ := hf
  replace hf := bnE hf
  obtain ⟨h5, e_h5, hf⟩ := hf
  have hx_h5 := FX_sP hx e_h5 (fun b e => rfl)
  have ef_h5 := EF_sP (EF.rf (S := S_X1_keep) _) e_h5 (by decide)
  replace hf := bnE hf
  obtain ⟨h6, e_h6, hf⟩ := hf
  have hx_h6 := FX_sP hx_h5 e_h6 (fun b e => rfl)
  have ef_h6 := EF_sP ef_h5 e_h6 (by decide)
  replace hf := nnE hf
  obtain ⟨a8, e_a8, hf⟩ := hf
  replace hf := bnE hf
  obtain ⟨h9, e_h9, hf⟩ := hf
  have hx_h9 := FX_sI hx_h6 e_h9
  have ef_h9 := EF_sI ef_h6 e_h9 (by decide)
  replace hf := nnE hf
  obtain ⟨a11, e_a11, hf⟩ := hf
  replace hf := cvE hf
  obtain ⟨h12, e_h12, hf⟩ := hf
  have q_h12 := EFc ef_h9 (ev_arrange F d hx_h9 e_h12) (by decide)
  have hx_h12 := q_h12.1
  have ef_h12 := q_h12.2
  cases hf
  exact ⟨hx_h12, ef_h12⟩
abbrev S_X1_parts : SS := ([], [], [], [], [])
set_option maxHeartbeats 4000000 in
theorem eX1_parts (F d : Nat) {this : Nat} {h : Hp} (hx : FXs h) {r : Int32 × Hp} (hf : fX1_parts F d this h = some r) : FXs r.2 ∧ EF S_X1_parts h r.2 := by
  unfold fX1_parts at hf
  replace hf := nnE hf
  obtain ⟨a2, e_a2, hf⟩ := hf
  cases hf
  exact ⟨hx, (EF.rf (S := S_X1_parts) _)⟩
abbrev S_X1_put : SS := ([103], [], [102], [], [])
set_option maxHeartbeats 4000000 in
theorem eX1_put_28 (F d : Nat) : ∀ (n : Nat) (this : Nat) (x1 : Int64) (x4 : Int32) (h : Hp) (hx : FXs h) {r : Int32 × Hp}, fX1_put_28 F d n this x1 x4 h = some r → FXs r.2 ∧ EF S_X1_put h r.2 := by
  intro n
  induction n with
  | zero => intro _ _ _ _ _ r hf; cases hf
  | succ n ih =>
    intro this x1 x4 h hx r hf
    unfold fX1_put_28 at hf
    by_cases c1 : x4 < 0
    · replace hf := ifp c1 hf
      cases hf
      exact ⟨hx, (EF.rf (S := S_X1_put) _)⟩
    · replace hf := ifn c1 hf
      replace hf := nnE hf
      obtain ⟨a3, e_a3, hf⟩ := hf
      have sa_a3 := hx 102 _ _ e_a3
      replace hf := ckE hf
      obtain ⟨c4, hf⟩ := hf
      replace hf := bnE hf
      obtain ⟨h5, e_h5, hf⟩ := hf
      have hx_h5 := FX_sA hx e_h5
      have ef_h5 := EF_sA (EF.rf (S := S_X1_put) _) e_h5 (f := 102) (by decide) sa_a3
      replace hf := bnE hf
      obtain ⟨h6, e_h6, hf⟩ := hf
      have hx_h6 := FX_sI hx_h5 e_h6
      have ef_h6 := EF_sI ef_h5 e_h6 (by decide)
      replace hf := bnE hf
      obtain ⟨v7, e_v7, hf⟩ := hf
      exact EFj ef_h6 (ih _ _ _ _ hx_h6 hf)
set_option maxHeartbeats 4000000 in
theorem eX1_put (F d : Nat) {this : Nat} {p0 : Int64} {p1 : Int32} {h : Hp} (hx : FXs h) {r : Int32 × Hp} (hf : fX1_put F d this p0 p1 h = some r) : FXs r.2 ∧ EF S_X1_put h r.2 := by
  unfold fX1_put at hf
  replace hf := caE hf
  obtain ⟨v2, h1, e_h1, hf⟩ := hf
  have q_h1 := EFc (EF.rf (S := S_X1_put) _) (eX1_outside F d hx e_h1) (by decide)
  have hx_h1 := q_h1.1
  have ef_h1 := q_h1.2
  by_cases c3 : v2 = 0
  · replace hf := ifp c3 hf
    by_cases c4 : ((gI h1 103 this) + p1) ≤ 120
    · replace hf := ifp c4 hf
      replace hf := bnE hf
      obtain ⟨v5, e_v5, hf⟩ := hf
      exact EFj ef_h1 (eX1_put_28 F d F _ _ _ _ hx_h1 hf)
    · replace hf := ifn c4 hf
      cases hf
      exact ⟨hx_h1, ef_h1⟩
  · replace hf := ifn c3 hf
    cases hf
    exact ⟨hx_h1, ef_h1⟩
set_option maxHeartbeats 4000000 in
theorem ev_pack (F : Nat) : ∀ (d : Nat) {b : Nat} {p0 : Nat} {p1 : Nat} {h : Hp} (_ : FXs h) {r : Hp}, v_pack F d b p0 p1 h = some r → FXs r ∧ EF SV_pack h r := by
  intro d
  induction d with
  | zero => intro b p0 p1 h hx r hf; cases hf
  | succ d ih =>
    intro b p0 p1 h hx r hf
    unfold v_pack at hf
    by_cases e_ : nd_Kd b = 6
    · replace hf := ifp e_ hf
      exact EFc (EF.rf (S := SV_pack) _) (eX9_pack F d hx hf) (by decide)
    replace hf := ifn e_ hf
    by_cases e_ : nd_Kd b = 7
    · replace hf := ifp e_ hf
      exact EFc (EF.rf (S := SV_pack) _) (eX11_pack F d (v_pack F d) ih hx hf) (by decide)
    replace hf := ifn e_ hf
    by_cases e_ : nd_Kd b = 8
    · replace hf := ifp e_ hf
      exact EFc (EF.rf (S := SV_pack) _) (eX12_pack F d (v_pack F d) ih hx hf) (by decide)
    replace hf := ifn e_ hf
    by_cases e_ : nd_Kd b = 9
    · replace hf := ifp e_ hf
      exact EFc (EF.rf (S := SV_pack) _) (eX13_pack F d hx hf) (by decide)
    replace hf := ifn e_ hf
    by_cases e_ : nd_Kd b = 11
    · replace hf := ifp e_ hf
      exact EFc (EF.rf (S := SV_pack) _) (eX15_pack F d (v_pack F d) ih hx hf) (by decide)
    replace hf := ifn e_ hf
    by_cases e_ : nd_Kd b = 12
    · replace hf := ifp e_ hf
      exact EFc (EF.rf (S := SV_pack) _) (eX16_pack F d (v_pack F d) ih hx hf) (by decide)
    replace hf := ifn e_ hf
    cases hf
set_option maxHeartbeats 4000000 in
theorem ev_write (F : Nat) : ∀ (d : Nat) {b : Nat} {p0 : Nat} {p1 : Nat} {p2 : Int32} {h : Hp} (_ : FXs h) {r : Hp}, v_write F d b p0 p1 p2 h = some r → FXs r ∧ EF SV_write h r := by
  intro d
  induction d with
  | zero => intro b p0 p1 p2 h hx r hf; cases hf
  | succ d ih =>
    intro b p0 p1 p2 h hx r hf
    unfold v_write at hf
    by_cases e_ : nd_Kd b = 6
    · replace hf := ifp e_ hf
      exact EFc (EF.rf (S := SV_write) _) (eX8_write F d hx hf) (by decide)
    replace hf := ifn e_ hf
    by_cases e_ : nd_Kd b = 7
    · replace hf := ifp e_ hf
      exact EFc (EF.rf (S := SV_write) _) (eX11_write F d (v_write F d) ih hx hf) (by decide)
    replace hf := ifn e_ hf
    by_cases e_ : nd_Kd b = 8
    · replace hf := ifp e_ hf
      exact EFc (EF.rf (S := SV_write) _) (eX12_write F d (v_write F d) ih hx hf) (by decide)
    replace hf := ifn e_ hf
    by_cases e_ : nd_Kd b = 9
    · replace hf := ifp e_ hf
      exact EFc (EF.rf (S := SV_write) _) (eX8_write F d hx hf) (by decide)
    replace hf := ifn e_ hf
    by_cases e_ : nd_Kd b = 11
    · replace hf := ifp e_ hf
      exact EFc (EF.rf (S := SV_write) _) (eX15_write F d (v_write F d) ih hx hf) (by decide)
    replace hf := ifn e_ hf
    by_cases e_ : nd_Kd b = 12
    · replace hf := ifp e_ hf
      exact EFc (EF.rf (S := SV_write) _) (eX16_write F d (v_write F d) ih hx hf) (by decide)
    replace hf := ifn e_ hf
    cases hf
abbrev S_X1_write : SS := ([501], [502], [500], [], [])
set_option maxHeartbeats 4000000 in
theorem eX1_write_56 (F d : Nat) (this : Nat) (h : Hp) (hx : FXs h) {r : Hp} (hf : fX1_write_56 F d this h = some r) : FXs r ∧ EF S_X1_write h r := by
  unfold fX1_write_56 at hf
  replace hf := nnE hf
  obtain ⟨a2, e_a2, hf⟩ := hf
  replace hf := cvE hf
  obtain ⟨h3, e_h3, hf⟩ := hf
  have q_h3 := EFc (EF.rf (S := S_X1_write) _) (eX5_align F d hx e_h3) (by decide)
  have hx_h3 := q_h3.1
  have ef_h3 := q_h3.2
  cases hf
  exact ⟨hx_h3, ef_h3⟩
set_option maxHeartbeats 4000000 in
theorem eX1_write (F d : Nat) {this : Nat} {p0 : Nat} {p1 : Nat} {p2 : Int32} {h : Hp} (hx : FXs h) {r : Hp} (hf : fX1_write F d this p0 p1 p2 h = some r) : FXs r ∧ EF S_X1_write h r := by
  unfold fX1_write at hf
  replace hf := nnE hf
  obtain ⟨a2, e_a2, hf⟩ := hf
  replace hf := nnE hf
  obtain ⟨a4, e_a4, hf⟩ := hf
  replace hf := cvE hf
  obtain ⟨h5, e_h5, hf⟩ := hf
  have q_h5 := EFc (EF.rf (S := S_X1_write) _) (eX5_begin F d hx e_h5) (by decide)
  have hx_h5 := q_h5.1
  have ef_h5 := q_h5.2
  by_cases c7 : p2 = 1
  · replace hf := ifp c7 hf
    replace hf := nnE hf
    obtain ⟨a20, e_a20, hf⟩ := hf
    replace hf := cvE hf
    obtain ⟨h21, e_h21, hf⟩ := hf
    have q_h21 := EFc ef_h5 (ev_write F d hx_h5 e_h21) (by decide)
    have hx_h21 := q_h21.1
    have ef_h21 := q_h21.2
    cases hf
    exact ⟨hx_h21, ef_h21⟩
  · replace hf := ifn c7 hf
    replace hf := nnE hf
    obtain ⟨a9, e_a9, hf⟩ := hf
    replace hf := cvE hf
    obtain ⟨h10, e_h10, hf⟩ := hf
    have q_h10 := EFc ef_h5 (ev_pack F d hx_h5 e_h10) (by decide)
    have hx_h10 := q_h10.1
    have ef_h10 := q_h10.2
    replace hf := nnE hf
    obtain ⟨a13, e_a13, hf⟩ := hf
    by_cases c14 : (gI h10 501 a13) = 0
    · replace hf := ifp c14 hf
      replace hf := nnE hf
      obtain ⟨a16, e_a16, hf⟩ := hf
      replace hf := cvE hf
      obtain ⟨h17, e_h17, hf⟩ := hf
      have q_h17 := EFc ef_h10 (eX5_put F d hx_h10 e_h17) (by decide)
      have hx_h17 := q_h17.1
      have ef_h17 := q_h17.2
      exact EFj ef_h17 (eX1_write_56 F d _ _ hx_h17 hf)
    · replace hf := ifn c14 hf
      exact EFj ef_h10 (eX1_write_56 F d _ _ hx_h10 hf)
set_option maxHeartbeats 4000000 in
theorem ev_read (F : Nat) : ∀ (d : Nat) {b : Nat} {p0 : Nat} {p1 : Int32} {h : Hp} (_ : FXs h) {r : Option Nat × Hp}, v_read F d b p0 p1 h = some r → FXs r.2 ∧ EF SV_read h r.2 := by
  intro d
  induction d with
  | zero => intro b p0 p1 h hx r hf; cases hf
  | succ d ih =>
    intro b p0 p1 h hx r hf
    unfold v_read at hf
    by_cases e_ : nd_Kd b = 6
    · replace hf := ifp e_ hf
      exact EFc (EF.rf (S := SV_read) _) (eX8_read F d hx hf) (by decide)
    replace hf := ifn e_ hf
    by_cases e_ : nd_Kd b = 7
    · replace hf := ifp e_ hf
      exact EFc (EF.rf (S := SV_read) _) (eX11_read F d (v_read F d) ih hx hf) (by decide)
    replace hf := ifn e_ hf
    by_cases e_ : nd_Kd b = 8
    · replace hf := ifp e_ hf
      exact EFc (EF.rf (S := SV_read) _) (eX12_read F d (v_read F d) ih hx hf) (by decide)
    replace hf := ifn e_ hf
    by_cases e_ : nd_Kd b = 9
    · replace hf := ifp e_ hf
      exact EFc (EF.rf (S := SV_read) _) (eX8_read F d hx hf) (by decide)
    replace hf := ifn e_ hf
    by_cases e_ : nd_Kd b = 11
    · replace hf := ifp e_ hf
      exact EFc (EF.rf (S := SV_read) _) (eX15_read F d (v_read F d) ih hx hf) (by decide)
    replace hf := ifn e_ hf
    by_cases e_ : nd_Kd b = 12
    · replace hf := ifp e_ hf
      exact EFc (EF.rf (S := SV_read) _) (eX16_read F d (v_read F d) ih hx hf) (by decide)
    replace hf := ifn e_ hf
    cases hf
set_option maxHeartbeats 4000000 in
theorem ev_unpack (F : Nat) : ∀ (d : Nat) {b : Nat} {p0 : Nat} {h : Hp} (_ : FXs h) {r : Option Nat × Hp}, v_unpack F d b p0 h = some r → FXs r.2 ∧ EF SV_unpack h r.2 := by
  intro d
  induction d with
  | zero => intro b p0 h hx r hf; cases hf
  | succ d ih =>
    intro b p0 h hx r hf
    unfold v_unpack at hf
    by_cases e_ : nd_Kd b = 6
    · replace hf := ifp e_ hf
      exact EFc (EF.rf (S := SV_unpack) _) (eX9_unpack F d hx hf) (by decide)
    replace hf := ifn e_ hf
    by_cases e_ : nd_Kd b = 7
    · replace hf := ifp e_ hf
      exact EFc (EF.rf (S := SV_unpack) _) (eX11_unpack F d (v_unpack F d) ih hx hf) (by decide)
    replace hf := ifn e_ hf
    by_cases e_ : nd_Kd b = 8
    · replace hf := ifp e_ hf
      exact EFc (EF.rf (S := SV_unpack) _) (eX12_unpack F d (v_unpack F d) ih hx hf) (by decide)
    replace hf := ifn e_ hf
    by_cases e_ : nd_Kd b = 9
    · replace hf := ifp e_ hf
      exact EFc (EF.rf (S := SV_unpack) _) (eX13_unpack F d hx hf) (by decide)
    replace hf := ifn e_ hf
    by_cases e_ : nd_Kd b = 11
    · replace hf := ifp e_ hf
      exact EFc (EF.rf (S := SV_unpack) _) (eX15_unpack F d (v_unpack F d) ih hx hf) (by decide)
    replace hf := ifn e_ hf
    by_cases e_ : nd_Kd b = 12
    · replace hf := ifp e_ hf
      exact EFc (EF.rf (S := SV_unpack) _) (eX16_unpack F d (v_unpack F d) ih hx hf) (by decide)
    replace hf := ifn e_ hf
    cases hf
abbrev S_X1_read : SS := ([303, 304, 305, 401, 402, 403, 407, 501, 1700, 1701, 1702, 1703], [400, 404, 502, 1706, 1707, 1708], [302, 405, 406, 500], [300], [13])
set_option maxHeartbeats 4000000 in
theorem eX1_read_170 (F d : Nat) (x4 : Nat) (x5 : Int32) (h : Hp) (hx : FXs h) {r : Option Nat × Hp} (hf : fX1_read_170 F d x4 x5 h = some r) : FXs r.2 ∧ EF S_X1_read h r.2 := by
  unfold fX1_read_170 at hf
  by_cases c1 : x5 = 0
  · replace hf := ifp c1 hf
    cases hf
    exact ⟨hx, (EF.rf (S := S_X1_read) _)⟩
  · replace hf := ifn c1 hf
    cases hf
    exact ⟨hx, (EF.rf (S := S_X1_read) _)⟩
set_option maxHeartbeats 4000000 in
theorem eX1_read_162 (F d : Nat) (k_121 : Nat → Int32 → Nat → Int32 → Int32 → Hp → Option (Option Nat × Hp)) (hk_121 : ∀ (this : Nat) (x2 : Int32) (x4 : Nat) (x5 : Int32) (x6 : Int32) (h : Hp) (hx : FXs h) {r : Option Nat × Hp}, k_121 this x2 x4 x5 x6 h = some r → FXs r.2 ∧ EF S_X1_read h r.2) (this : Nat) (x2 : Int32) (x4 : Nat) (x6 : Int32) (s0 : Int32) (h : Hp) (hx : FXs h) {r : Option Nat × Hp} (hf : fX1_read_162 F d k_121 this x2 x4 x6 s0 h = some r) : FXs r.2 ∧ EF S_X1_read h r.2 := by
  unfold fX1_read_162 at hf
  replace hf := bnE hf
  obtain ⟨v1, e_v1, hf⟩ := hf
  exact EFj (EF.rf (S := S_X1_read) _) (hk_121 _ _ _ _ _ _ hx hf)
set_option maxHeartbeats 4000000 in
theorem eX1_read_121 (F d : Nat) : ∀ (n : Nat) (this : Nat) (x2 : Int32) (x4 : Nat) (x5 : Int32) (x6 : Int32) (h : Hp) (hx : FXs h) {r : Option Nat × Hp}, fX1_read_121 F d n this x2 x4 x5 x6 h = some r → FXs r.2 ∧ EF S_X1_read h r.2 := by
  intro n
  induction n with
  | zero => intro _ _ _ _ _ _ _ r hf; cases hf
  | succ n ih =>
    intro this x2 x4 x5 x6 h hx r hf
    unfold fX1_read_121 at hf
    by_cases c1 : (gI h 103 this) ≤ x6
    · replace hf := ifp c1 hf
      exact EFj (EF.rf (S := S_X1_read) _) (eX1_read_170 F d _ _ _ hx hf)
    · replace hf := ifn c1 hf
      by_cases c2 : x5 = 0
      · replace hf := ifp c2 hf
        exact EFj (EF.rf (S := S_X1_read) _) (eX1_read_170 F d _ _ _ hx hf)
      · replace hf := ifn c2 hf
        replace hf := nnE hf
        obtain ⟨a4, e_a4, hf⟩ := hf
        replace hf := nnE hf
        obtain ⟨a6, e_a6, hf⟩ := hf
        have sa_a6 := hx 500 _ _ e_a6
        replace hf := ckE hf
        obtain ⟨c7, hf⟩ := hf
        replace hf := nnE hf
        obtain ⟨a9, e_a9, hf⟩ := hf
        have sa_a9 := hx 102 _ _ e_a9
        replace hf := ckE hf
        obtain ⟨c10, hf⟩ := hf
        by_cases c11 : (gA h a6 (Int32.toNatClampNeg (x6 - x2))) = (gA h a9 (Int32.toNatClampNeg x6))
        · replace hf := ifp c11 hf
          exact EFj (EF.rf (S := S_X1_read) _) (eX1_read_162 F d (fX1_read_121 F d n) ih _ _ _ _ _ _ hx hf)
        · replace hf := ifn c11 hf
          exact EFj (EF.rf (S := S_X1_read) _) (eX1_read_162 F d (fX1_read_121 F d n) ih _ _ _ _ _ _ hx hf)
set_option maxHeartbeats 4000000 in
theorem eX1_read_116 (F d : Nat) (this : Nat) (x2 : Int32) (x4 : Nat) (s0 : Int32) (h : Hp) (hx : FXs h) {r : Option Nat × Hp} (hf : fX1_read_116 F d this x2 x4 s0 h = some r) : FXs r.2 ∧ EF S_X1_read h r.2 := by
  unfold fX1_read_116 at hf
  exact EFj (EF.rf (S := S_X1_read) _) (eX1_read_121 F d F _ _ _ _ _ _ hx hf)
set_option maxHeartbeats 4000000 in
theorem eX1_read_80 (F d : Nat) (this : Nat) (x1 : Nat) (x2 : Int32) (x3 : Int32) (x4 : Nat) (h : Hp) (hx : FXs h) {r : Option Nat × Hp} (hf : fX1_read_80 F d this x1 x2 x3 x4 h = some r) : FXs r.2 ∧ EF S_X1_read h r.2 := by
  unfold fX1_read_80 at hf
  by_cases c1 : x3 = 0
  · replace hf := ifp c1 hf
    cases hf
    exact ⟨hx, (EF.rf (S := S_X1_read) _)⟩
  · replace hf := ifn c1 hf
    replace hf := cvE hf
    obtain ⟨h2, e_h2, hf⟩ := hf
    have q_h2 := EFc (EF.rf (S := S_X1_read) _) (eX1_write F d hx e_h2) (by decide)
    have hx_h2 := q_h2.1
    have ef_h2 := q_h2.2
    replace hf := nnE hf
    obtain ⟨a5, e_a5, hf⟩ := hf
    replace hf := caE hf
    obtain ⟨v7, h6, e_h6, hf⟩ := hf
    have q_h6 := EFc ef_h2 (eX5_size F d hx_h2 e_h6) (by decide)
    have hx_h6 := q_h6.1
    have ef_h6 := q_h6.2
    by_cases c8 : v7 = ((gI h6 103 this) - x2)
    · replace hf := ifp c8 hf
      exact EFj ef_h6 (eX1_read_116 F d _ _ _ _ _ hx_h6 hf)
    · replace hf := ifn c8 hf
      exact EFj ef_h6 (eX1_read_116 F d _ _ _ _ _ hx_h6 hf)
set_option maxHeartbeats 4000000 in
theorem eX1_read_52 (F d : Nat) (this : Nat) (x1 : Nat) (x2 : Int32) (x3 : Int32) (s0 : Option Nat) (h : Hp) (hx : FXs h) {r : Option Nat × Hp} (hf : fX1_read_52 F d this x1 x2 x3 s0 h = some r) : FXs r.2 ∧ EF S_X1_read h r.2 := by
  unfold fX1_read_52 at hf
  rcases nd_on s0 with e_a1 | ⟨a1, e_a1⟩
  · replace hf := ocN e_a1 hf
    subst e_a1
    cases hf
    exact ⟨hx, (EF.rf (S := S_X1_read) _)⟩
  · replace hf := ocS e_a1 hf
    subst e_a1
    by_cases c2 : x3 = 2
    · replace hf := ifp c2 hf
      exact EFj (EF.rf (S := S_X1_read) _) (eX1_read_80 F d _ _ _ _ _ _ hx hf)
    · replace hf := ifn c2 hf
      replace hf := nnE hf
      obtain ⟨a4, e_a4, hf⟩ := hf
      by_cases c5 : (gI h 401 a4) = (gI h 103 this)
      · replace hf := ifp c5 hf
        exact EFj (EF.rf (S := S_X1_read) _) (eX1_read_80 F d _ _ _ _ _ _ hx hf)
      · replace hf := ifn c5 hf
        cases hf
        exact ⟨hx, (EF.rf (S := S_X1_read) _)⟩
set_option maxHeartbeats 4000000 in
theorem eX1_read (F d : Nat) {this : Nat} {p0 : Nat} {p1 : Int32} {p2 : Int32} {h : Hp} (hx : FXs h) {r : Option Nat × Hp} (hf : fX1_read F d this p0 p1 p2 h = some r) : FXs r.2 ∧ EF S_X1_read h r.2 := by
  unfold fX1_read at hf
  replace hf := nnE hf
  obtain ⟨a2, e_a2, hf⟩ := hf
  replace hf := cvE hf
  obtain ⟨h3, e_h3, hf⟩ := hf
  have q_h3 := EFc (EF.rf (S := S_X1_read) _) (eX3_clear F d hx e_h3) (by decide)
  have hx_h3 := q_h3.1
  have ef_h3 := q_h3.2
  replace hf := nnE hf
  obtain ⟨a6, e_a6, hf⟩ := hf
  replace hf := nnE hf
  obtain ⟨a8, e_a8, hf⟩ := hf
  have sa_a8 := hx_h3 102 _ _ e_a8
  replace hf := nnE hf
  obtain ⟨a10, e_a10, hf⟩ := hf
  replace hf := cvE hf
  obtain ⟨h11, e_h11, hf⟩ := hf
  have q_h11 := EFc ef_h3 (eX4_begin F d hx_h3 e_h11) (by decide)
  have hx_h11 := q_h11.1
  have ef_h11 := q_h11.2
  by_cases c13 : p2 = 2
  · replace hf := ifp c13 hf
    replace hf := nnE hf
    obtain ⟨a20, e_a20, hf⟩ := hf
    replace hf := caE hf
    obtain ⟨v22, h21, e_h21, hf⟩ := hf
    have q_h21 := EFc ef_h11 (ev_unpack F d hx_h11 e_h21) (by decide)
    have hx_h21 := q_h21.1
    have ef_h21 := q_h21.2
    exact EFj ef_h21 (eX1_read_52 F d _ _ _ _ _ _ hx_h21 hf)
  · replace hf := ifn c13 hf
    replace hf := nnE hf
    obtain ⟨a15, e_a15, hf⟩ := hf
    replace hf := caE hf
    obtain ⟨v17, h16, e_h16, hf⟩ := hf
    have q_h16 := EFc ef_h11 (ev_read F d hx_h11 e_h16) (by decide)
    have hx_h16 := q_h16.1
    have ef_h16 := q_h16.2
    exact EFj ef_h16 (eX1_read_52 F d _ _ _ _ _ _ hx_h16 hf)
abbrev S_X1_replies : SS := ([103], [], [102], [], [])
set_option maxHeartbeats 4000000 in
theorem eX1_replies (F d : Nat) {this : Nat} {p0 : Int32} {p1 : Int32} {p2 : Int32} {h : Hp} (hx : FXs h) {r : Int32 × Hp} (hf : fX1_replies F d this p0 p1 p2 h = some r) : FXs r.2 ∧ EF S_X1_replies h r.2 := by
  unfold fX1_replies at hf
  replace hf := nnE hf
  obtain ⟨a2, e_a2, hf⟩ := hf
  have sa_a2 := hx 102 _ _ e_a2
  replace hf := ckE hf
  obtain ⟨c3, hf⟩ := hf
  replace hf := bnE hf
  obtain ⟨h4, e_h4, hf⟩ := hf
  have hx_h4 := FX_sA hx e_h4
  have ef_h4 := EF_sA (EF.rf (S := S_X1_replies) _) e_h4 (f := 102) (by decide) sa_a2
  replace hf := nnE hf
  obtain ⟨a6, e_a6, hf⟩ := hf
  have sa_a6 := hx_h4 102 _ _ e_a6
  replace hf := ckE hf
  obtain ⟨c7, hf⟩ := hf
  replace hf := bnE hf
  obtain ⟨h8, e_h8, hf⟩ := hf
  have hx_h8 := FX_sA hx_h4 e_h8
  have ef_h8 := EF_sA ef_h4 e_h8 (f := 102) (by decide) sa_a6
  replace hf := nnE hf
  obtain ⟨a10, e_a10, hf⟩ := hf
  have sa_a10 := hx_h8 102 _ _ e_a10
  replace hf := ckE hf
  obtain ⟨c11, hf⟩ := hf
  replace hf := bnE hf
  obtain ⟨h12, e_h12, hf⟩ := hf
  have hx_h12 := FX_sA hx_h8 e_h12
  have ef_h12 := EF_sA ef_h8 e_h12 (f := 102) (by decide) sa_a10
  by_cases c13 : p0 = 3
  · replace hf := ifp c13 hf
    replace hf := bnE hf
    obtain ⟨h15, e_h15, hf⟩ := hf
    have hx_h15 := FX_sI hx_h12 e_h15
    have ef_h15 := EF_sI ef_h12 e_h15 (by decide)
    cases hf
    exact ⟨hx_h15, ef_h15⟩
  · replace hf := ifn c13 hf
    replace hf := bnE hf
    obtain ⟨h14, e_h14, hf⟩ := hf
    have hx_h14 := FX_sI hx_h12 e_h14
    have ef_h14 := EF_sI ef_h12 e_h14 (by decide)
    cases hf
    exact ⟨hx_h14, ef_h14⟩
abbrev S_X1_type : SS := ([101, 201, 303, 304, 305], [], [111, 200], [108], [])
set_option maxHeartbeats 4000000 in
theorem eX1_type (F d : Nat) {this : Nat} {p0 : Int32} {h : Hp} (hx : FXs h) {r : Int32 × Hp} (hf : fX1_type F d this p0 h = some r) : FXs r.2 ∧ EF S_X1_type h r.2 := by
  unfold fX1_type at hf
  replace hf := nnE hf
  obtain ⟨a2, e_a2, hf⟩ := hf
  by_cases c3 : (gI h 201 a2) < 150
  · replace hf := ifp c3 hf
    replace hf := nnE hf
    obtain ⟨a5, e_a5, hf⟩ := hf
    replace hf := nnE hf
    obtain ⟨a7, e_a7, hf⟩ := hf
    have sa_a7 := hx 200 _ _ e_a7
    replace hf := nnE hf
    obtain ⟨a9, e_a9, hf⟩ := hf
    replace hf := ckE hf
    obtain ⟨c10, hf⟩ := hf
    replace hf := ckE hf
    obtain ⟨c12, hf⟩ := hf
    replace hf := bnE hf
    obtain ⟨h11, e_h11, hf⟩ := hf
    have hx_h11 := FX_sA hx e_h11
    have ef_h11 := EF_sA (EF.rf (S := S_X1_type) _) e_h11 (f := 200) (by decide) sa_a7
    replace hf := nnE hf
    obtain ⟨a14, e_a14, hf⟩ := hf
    replace hf := bnE hf
    obtain ⟨h15, e_h15, hf⟩ := hf
    have hx_h15 := FX_sI hx_h11 e_h15
    have ef_h15 := EF_sI ef_h11 e_h15 (by decide)
    replace hf := cvE hf
    obtain ⟨h16, e_h16, hf⟩ := hf
    have q_h16 := EFc ef_h15 (eX1_forget F d hx_h15 e_h16) (by decide)
    have hx_h16 := q_h16.1
    have ef_h16 := q_h16.2
    cases hf
    exact ⟨hx_h16, ef_h16⟩
  · replace hf := ifn c3 hf
    cases hf
    exact ⟨hx, (EF.rf (S := S_X1_type) _)⟩
abbrev S_X1_wipe : SS := ([103], [], [], [], [])
set_option maxHeartbeats 4000000 in
theorem eX1_wipe (F d : Nat) {this : Nat} {h : Hp} (hx : FXs h) {r : Int32 × Hp} (hf : fX1_wipe F d this h = some r) : FXs r.2 ∧ EF S_X1_wipe h r.2 := by
  unfold fX1_wipe at hf
  replace hf := bnE hf
  obtain ⟨v1, e_v1, hf⟩ := hf
  replace hf := bnE hf
  obtain ⟨h2, e_h2, hf⟩ := hf
  have hx_h2 := FX_sI hx e_h2
  have ef_h2 := EF_sI (EF.rf (S := S_X1_wipe) _) e_h2 (by decide)
  cases hf
  exact ⟨hx_h2, ef_h2⟩
