set_option maxRecDepth 100000
abbrev S_X6_leave : SS := ([601, 644], [], [655, 658], [], [])
set_option maxHeartbeats 4000000 in
theorem eX6_leave_33 (F d : Nat) : ∀ (n : Nat) (this : Nat) (x1 : Int32) (h : Hp) (hx : FXs h) {r : Hp}, fX6_leave_33 F d n this x1 h = some r → FXs r ∧ EF S_X6_leave h r := by
  intro n
  induction n with
  | zero => intro _ _ _ _ r hf; cases hf
  | succ n ih =>
    intro this x1 h hx r hf
    unfold fX6_leave_33 at hf
    by_cases c1 : 256 ≤ x1
    · replace hf := ifp c1 hf
      cases hf
      exact ⟨hx, (EF.rf (S := S_X6_leave) _)⟩
    · replace hf := ifn c1 hf
      replace hf := nnE hf
      obtain ⟨a3, e_a3, hf⟩ := hf
      have sa_a3 := hx 658 _ _ e_a3
      replace hf := ckE hf
      obtain ⟨c4, hf⟩ := hf
      replace hf := bnE hf
      obtain ⟨h5, e_h5, hf⟩ := hf
      have hx_h5 := FX_sA hx e_h5
      have ef_h5 := EF_sA (EF.rf (S := S_X6_leave) _) e_h5 (f := 658) (by decide) sa_a3
      replace hf := bnE hf
      obtain ⟨v6, e_v6, hf⟩ := hf
      exact EFj ef_h5 (ih _ _ _ hx_h5 hf)
set_option maxHeartbeats 4000000 in
theorem eX6_leave_12 (F d : Nat) : ∀ (n : Nat) (this : Nat) (x1 : Int32) (h : Hp) (hx : FXs h) {r : Hp}, fX6_leave_12 F d n this x1 h = some r → FXs r ∧ EF S_X6_leave h r := by
  intro n
  induction n with
  | zero => intro _ _ _ _ r hf; cases hf
  | succ n ih =>
    intro this x1 h hx r hf
    unfold fX6_leave_12 at hf
    by_cases c1 : 8 ≤ x1
    · replace hf := ifp c1 hf
      exact EFj (EF.rf (S := S_X6_leave) _) (eX6_leave_33 F d F _ _ _ hx hf)
    · replace hf := ifn c1 hf
      replace hf := nnE hf
      obtain ⟨a3, e_a3, hf⟩ := hf
      have sa_a3 := hx 655 _ _ e_a3
      replace hf := ckE hf
      obtain ⟨c4, hf⟩ := hf
      replace hf := bnE hf
      obtain ⟨h5, e_h5, hf⟩ := hf
      have hx_h5 := FX_sA hx e_h5
      have ef_h5 := EF_sA (EF.rf (S := S_X6_leave) _) e_h5 (f := 655) (by decide) sa_a3
      replace hf := bnE hf
      obtain ⟨v6, e_v6, hf⟩ := hf
      exact EFj ef_h5 (ih _ _ _ hx_h5 hf)
set_option maxHeartbeats 4000000 in
theorem eX6_leave (F d : Nat) {this : Nat} {h : Hp} (hx : FXs h) {r : Hp} (hf : fX6_leave F d this h = some r) : FXs r ∧ EF S_X6_leave h r := by
  unfold fX6_leave at hf
  replace hf := bnE hf
  obtain ⟨h1, e_h1, hf⟩ := hf
  have hx_h1 := FX_sI hx e_h1
  have ef_h1 := EF_sI (EF.rf (S := S_X6_leave) _) e_h1 (by decide)
  replace hf := bnE hf
  obtain ⟨h2, e_h2, hf⟩ := hf
  have hx_h2 := FX_sI hx_h1 e_h2
  have ef_h2 := EF_sI ef_h1 e_h2 (by decide)
  exact EFj ef_h2 (eX6_leave_12 F d F _ _ _ hx_h2 hf)
abbrev S_X6_thrown : SS := ([], [], [], [], [])
set_option maxHeartbeats 4000000 in
theorem eX6_thrown (F d : Nat) {this : Nat} {h : Hp} (hx : FXs h) {r : Int32 × Hp} (hf : fX6_thrown F d this h = some r) : FXs r.2 ∧ EF S_X6_thrown h r.2 := by
  unfold fX6_thrown at hf
  cases hf
  exact ⟨hx, (EF.rf (S := S_X6_thrown) _)⟩
abbrev S_X6_type : SS := ([600, 601, 602, 644], [], [607, 655, 658], [], [])
set_option maxHeartbeats 4000000 in
theorem eX6_type (F d : Nat) {this : Nat} {p0 : Int32} {h : Hp} (hx : FXs h) {r : Int32 × Hp} (hf : fX6_type F d this p0 h = some r) : FXs r.2 ∧ EF S_X6_type h r.2 := by
  unfold fX6_type at hf
  replace hf := bnE hf
  obtain ⟨h1, e_h1, hf⟩ := hf
  have hx_h1 := FX_sI hx e_h1
  have ef_h1 := EF_sI (EF.rf (S := S_X6_type) _) e_h1 (by decide)
  by_cases c2 : (gI h1 602 this) = 150
  · replace hf := ifp c2 hf
    cases hf
    exact ⟨hx_h1, ef_h1⟩
  · replace hf := ifn c2 hf
    replace hf := nnE hf
    obtain ⟨a4, e_a4, hf⟩ := hf
    have sa_a4 := hx_h1 607 _ _ e_a4
    replace hf := ckE hf
    obtain ⟨c5, hf⟩ := hf
    replace hf := ckE hf
    obtain ⟨c7, hf⟩ := hf
    replace hf := bnE hf
    obtain ⟨h6, e_h6, hf⟩ := hf
    have hx_h6 := FX_sA hx_h1 e_h6
    have ef_h6 := EF_sA ef_h1 e_h6 (f := 607) (by decide) sa_a4
    replace hf := bnE hf
    obtain ⟨h8, e_h8, hf⟩ := hf
    have hx_h8 := FX_sI hx_h6 e_h8
    have ef_h8 := EF_sI ef_h6 e_h8 (by decide)
    replace hf := cvE hf
    obtain ⟨h9, e_h9, hf⟩ := hf
    have q_h9 := EFc ef_h8 (eX6_leave F d hx_h8 e_h9) (by decide)
    have hx_h9 := q_h9.1
    have ef_h9 := q_h9.2
    cases hf
    exact ⟨hx_h9, ef_h9⟩
abbrev S_X6_clear : SS := ([600, 601, 602, 644], [], [655, 658], [], [])
set_option maxHeartbeats 4000000 in
theorem eX6_clear (F d : Nat) {this : Nat} {h : Hp} (hx : FXs h) {r : Int32 × Hp} (hf : fX6_clear F d this h = some r) : FXs r.2 ∧ EF S_X6_clear h r.2 := by
  unfold fX6_clear at hf
  replace hf := bnE hf
  obtain ⟨v1, e_v1, hf⟩ := hf
  replace hf := bnE hf
  obtain ⟨h2, e_h2, hf⟩ := hf
  have hx_h2 := FX_sI hx e_h2
  have ef_h2 := EF_sI (EF.rf (S := S_X6_clear) _) e_h2 (by decide)
  replace hf := bnE hf
  obtain ⟨h3, e_h3, hf⟩ := hf
  have hx_h3 := FX_sI hx_h2 e_h3
  have ef_h3 := EF_sI ef_h2 e_h3 (by decide)
  replace hf := cvE hf
  obtain ⟨h4, e_h4, hf⟩ := hf
  have q_h4 := EFc ef_h3 (eX6_leave F d hx_h3 e_h4) (by decide)
  have hx_h4 := q_h4.1
  have ef_h4 := q_h4.2
  cases hf
  exact ⟨hx_h4, ef_h4⟩
abbrev S_X6_look : SS := ([], [], [], [], [])
set_option maxHeartbeats 4000000 in
theorem eX6_look (F d : Nat) {this : Nat} {h : Hp} (hx : FXs h) {r : Int32 × Hp} (hf : fX6_look F d this h = some r) : FXs r.2 ∧ EF S_X6_look h r.2 := by
  unfold fX6_look at hf
  by_cases c1 : (gI h 602 this) ≤ (gI h 603 this)
  · replace hf := ifp c1 hf
    cases hf
    exact ⟨hx, (EF.rf (S := S_X6_look) _)⟩
  · replace hf := ifn c1 hf
    replace hf := nnE hf
    obtain ⟨a3, e_a3, hf⟩ := hf
    have sa_a3 := hx 607 _ _ e_a3
    replace hf := ckE hf
    obtain ⟨c4, hf⟩ := hf
    cases hf
    exact ⟨hx, (EF.rf (S := S_X6_look) _)⟩
abbrev S_X6_in : SS := ([], [], [], [], [])
set_option maxHeartbeats 4000000 in
theorem eX6_in (F d : Nat) {p0 : Int32} {p1 : Int32} {p2 : Int32} {h : Hp} (hx : FXs h) {r : Int32 × Hp} (hf : fX6_in F d p0 p1 p2 h = some r) : FXs r.2 ∧ EF S_X6_in h r.2 := by
  unfold fX6_in at hf
  by_cases c1 : p0 < p1
  · replace hf := ifp c1 hf
    cases hf
    exact ⟨hx, (EF.rf (S := S_X6_in) _)⟩
  · replace hf := ifn c1 hf
    by_cases c2 : p2 < p0
    · replace hf := ifp c2 hf
      cases hf
      exact ⟨hx, (EF.rf (S := S_X6_in) _)⟩
    · replace hf := ifn c2 hf
      cases hf
      exact ⟨hx, (EF.rf (S := S_X6_in) _)⟩
abbrev S_X6_stop : SS := ([604], [], [], [], [])
set_option maxHeartbeats 4000000 in
theorem eX6_stop (F d : Nat) {this : Nat} {p0 : Int32} {p1 : Int32} {h : Hp} (hx : FXs h) {r : Int32 × Hp} (hf : fX6_stop F d this p0 p1 h = some r) : FXs r.2 ∧ EF S_X6_stop h r.2 := by
  unfold fX6_stop at hf
  by_cases c1 : (gI h 604 this) = 0
  · replace hf := ifp c1 hf
    replace hf := bnE hf
    obtain ⟨h2, e_h2, hf⟩ := hf
    have hx_h2 := FX_sI hx e_h2
    have ef_h2 := EF_sI (EF.rf (S := S_X6_stop) _) e_h2 (by decide)
    cases hf
    exact ⟨hx_h2, ef_h2⟩
  · replace hf := ifn c1 hf
    cases hf
    exact ⟨hx, (EF.rf (S := S_X6_stop) _)⟩
abbrev S_X6_need : SS := ([603, 604], [], [], [], [])
set_option maxHeartbeats 4000000 in
theorem eX6_need_31 (F d : Nat) (this : Nat) (h : Hp) (hx : FXs h) {r : Int32 × Hp} (hf : fX6_need_31 F d this h = some r) : FXs r.2 ∧ EF S_X6_need h r.2 := by
  unfold fX6_need_31 at hf
  by_cases c1 : (gI h 604 this) = 0
  · replace hf := ifp c1 hf
    cases hf
    exact ⟨hx, (EF.rf (S := S_X6_need) _)⟩
  · replace hf := ifn c1 hf
    cases hf
    exact ⟨hx, (EF.rf (S := S_X6_need) _)⟩
set_option maxHeartbeats 4000000 in
theorem eX6_need (F d : Nat) {this : Nat} {p0 : Int32} {h : Hp} (hx : FXs h) {r : Int32 × Hp} (hf : fX6_need F d this p0 h = some r) : FXs r.2 ∧ EF S_X6_need h r.2 := by
  unfold fX6_need at hf
  replace hf := caE hf
  obtain ⟨v2, h1, e_h1, hf⟩ := hf
  have q_h1 := EFc (EF.rf (S := S_X6_need) _) (eX6_look F d hx e_h1) (by decide)
  have hx_h1 := q_h1.1
  have ef_h1 := q_h1.2
  by_cases c3 : v2 = p0
  · replace hf := ifp c3 hf
    replace hf := bnE hf
    obtain ⟨h6, e_h6, hf⟩ := hf
    have hx_h6 := FX_sI hx_h1 e_h6
    have ef_h6 := EF_sI ef_h1 e_h6 (by decide)
    exact EFj ef_h6 (eX6_need_31 F d _ _ hx_h6 hf)
  · replace hf := ifn c3 hf
    replace hf := caE hf
    obtain ⟨v5, h4, e_h4, hf⟩ := hf
    have q_h4 := EFc ef_h1 (eX6_stop F d hx_h1 e_h4) (by decide)
    have hx_h4 := q_h4.1
    have ef_h4 := q_h4.2
    exact EFj ef_h4 (eX6_need_31 F d _ _ hx_h4 hf)
abbrev S_X6_add : SS := ([610], [], [611, 615, 616, 617, 618], [], [])
set_option maxHeartbeats 4000000 in
theorem eX6_add_97 (F d : Nat) (this : Nat) (x2 : Int32) (s0 : Int32) (h : Hp) (hx : FXs h) {r : Int32 × Hp} (hf : fX6_add_97 F d this x2 s0 h = some r) : FXs r.2 ∧ EF S_X6_add h r.2 := by
  unfold fX6_add_97 at hf
  replace hf := nnE hf
  obtain ⟨a2, e_a2, hf⟩ := hf
  have sa_a2 := hx 616 _ _ e_a2
  by_cases c3 : s0 = 0
  · replace hf := ifp c3 hf
    replace hf := ckE hf
    obtain ⟨c6, hf⟩ := hf
    replace hf := bnE hf
    obtain ⟨h7, e_h7, hf⟩ := hf
    have hx_h7 := FX_sA hx e_h7
    have ef_h7 := EF_sA (EF.rf (S := S_X6_add) _) e_h7 (f := 616) (by decide) sa_a2
    cases hf
    exact ⟨hx_h7, ef_h7⟩
  · replace hf := ifn c3 hf
    replace hf := ckE hf
    obtain ⟨c4, hf⟩ := hf
    replace hf := bnE hf
    obtain ⟨h5, e_h5, hf⟩ := hf
    have hx_h5 := FX_sA hx e_h5
    have ef_h5 := EF_sA (EF.rf (S := S_X6_add) _) e_h5 (f := 616) (by decide) sa_a2
    cases hf
    exact ⟨hx_h5, ef_h5⟩
set_option maxHeartbeats 4000000 in
theorem eX6_add_91 (F d : Nat) (this : Nat) (x2 : Int32) (h : Hp) (hx : FXs h) {r : Int32 × Hp} (hf : fX6_add_91 F d this x2 h = some r) : FXs r.2 ∧ EF S_X6_add h r.2 := by
  unfold fX6_add_91 at hf
  exact EFj (EF.rf (S := S_X6_add) _) (eX6_add_97 F d _ _ _ _ hx hf)
set_option maxHeartbeats 4000000 in
theorem eX6_add (F d : Nat) {this : Nat} {p0 : Int32} {h : Hp} (hx : FXs h) {r : Int32 × Hp} (hf : fX6_add F d this p0 h = some r) : FXs r.2 ∧ EF S_X6_add h r.2 := by
  unfold fX6_add at hf
  replace hf := bnE hf
  obtain ⟨v1, e_v1, hf⟩ := hf
  replace hf := bnE hf
  obtain ⟨h2, e_h2, hf⟩ := hf
  have hx_h2 := FX_sI hx e_h2
  have ef_h2 := EF_sI (EF.rf (S := S_X6_add) _) e_h2 (by decide)
  replace hf := nnE hf
  obtain ⟨a4, e_a4, hf⟩ := hf
  have sa_a4 := hx_h2 611 _ _ e_a4
  replace hf := ckE hf
  obtain ⟨c5, hf⟩ := hf
  replace hf := bnE hf
  obtain ⟨h6, e_h6, hf⟩ := hf
  have hx_h6 := FX_sA hx_h2 e_h6
  have ef_h6 := EF_sA ef_h2 e_h6 (f := 611) (by decide) sa_a4
  replace hf := nnE hf
  obtain ⟨a8, e_a8, hf⟩ := hf
  have sa_a8 := hx_h6 615 _ _ e_a8
  replace hf := ckE hf
  obtain ⟨c9, hf⟩ := hf
  replace hf := bnE hf
  obtain ⟨h10, e_h10, hf⟩ := hf
  have hx_h10 := FX_sA hx_h6 e_h10
  have ef_h10 := EF_sA ef_h6 e_h10 (f := 615) (by decide) sa_a8
  replace hf := nnE hf
  obtain ⟨a12, e_a12, hf⟩ := hf
  have sa_a12 := hx_h10 617 _ _ e_a12
  replace hf := ckE hf
  obtain ⟨c13, hf⟩ := hf
  replace hf := bnE hf
  obtain ⟨h14, e_h14, hf⟩ := hf
  have hx_h14 := FX_sA hx_h10 e_h14
  have ef_h14 := EF_sA ef_h10 e_h14 (f := 617) (by decide) sa_a12
  replace hf := nnE hf
  obtain ⟨a16, e_a16, hf⟩ := hf
  have sa_a16 := hx_h14 618 _ _ e_a16
  replace hf := ckE hf
  obtain ⟨c17, hf⟩ := hf
  replace hf := bnE hf
  obtain ⟨h18, e_h18, hf⟩ := hf
  have hx_h18 := FX_sA hx_h14 e_h18
  have ef_h18 := EF_sA ef_h14 e_h18 (f := 618) (by decide) sa_a16
  by_cases c19 : p0 = 1
  · replace hf := ifp c19 hf
    exact EFj ef_h18 (eX6_add_97 F d _ _ _ _ hx_h18 hf)
  · replace hf := ifn c19 hf
    by_cases c20 : p0 = 2
    · replace hf := ifp c20 hf
      exact EFj ef_h18 (eX6_add_97 F d _ _ _ _ hx_h18 hf)
    · replace hf := ifn c20 hf
      by_cases c21 : p0 = 4
      · replace hf := ifp c21 hf
        exact EFj ef_h18 (eX6_add_97 F d _ _ _ _ hx_h18 hf)
      · replace hf := ifn c21 hf
        by_cases c22 : p0 = 5
        · replace hf := ifp c22 hf
          exact EFj ef_h18 (eX6_add_97 F d _ _ _ _ hx_h18 hf)
        · replace hf := ifn c22 hf
          by_cases c23 : p0 = 9
          · replace hf := ifp c23 hf
            exact EFj ef_h18 (eX6_add_91 F d _ _ _ hx_h18 hf)
          · replace hf := ifn c23 hf
            by_cases c24 : p0 = 10
            · replace hf := ifp c24 hf
              exact EFj ef_h18 (eX6_add_91 F d _ _ _ hx_h18 hf)
            · replace hf := ifn c24 hf
              exact EFj ef_h18 (eX6_add_97 F d _ _ _ _ hx_h18 hf)
abbrev S_X6_push : SS := ([605], [], [608], [], [])
set_option maxHeartbeats 4000000 in
theorem eX6_push (F d : Nat) {this : Nat} {p0 : Int32} {h : Hp} (hx : FXs h) {r : Int32 × Hp} (hf : fX6_push F d this p0 h = some r) : FXs r.2 ∧ EF S_X6_push h r.2 := by
  unfold fX6_push at hf
  replace hf := nnE hf
  obtain ⟨a2, e_a2, hf⟩ := hf
  have sa_a2 := hx 608 _ _ e_a2
  replace hf := ckE hf
  obtain ⟨c3, hf⟩ := hf
  replace hf := bnE hf
  obtain ⟨h4, e_h4, hf⟩ := hf
  have hx_h4 := FX_sA hx e_h4
  have ef_h4 := EF_sA (EF.rf (S := S_X6_push) _) e_h4 (f := 608) (by decide) sa_a2
  replace hf := bnE hf
  obtain ⟨h5, e_h5, hf⟩ := hf
  have hx_h5 := FX_sI hx_h4 e_h5
  have ef_h5 := EF_sI ef_h4 e_h5 (by decide)
  cases hf
  exact ⟨hx_h5, ef_h5⟩
abbrev S_X6_tagged : SS := ([603, 604, 605, 610], [], [608, 611, 614, 615, 616, 617, 618, 619], [], [])
set_option maxHeartbeats 4000000 in
theorem eX6_tagged_104 (F d : Nat) (this : Nat) (x1 : Int32) (s0 : Nat) (s1 : Int32) (s2 : Int32) (h : Hp) (hx : FXs h) {r : Int32 × Hp} (hf : fX6_tagged_104 F d this x1 s0 s1 s2 h = some r) : FXs r.2 ∧ EF S_X6_tagged h r.2 := by
  unfold fX6_tagged_104 at hf
  replace hf := bnE hf
  obtain ⟨h1, e_h1, hf⟩ := hf
  have hx_h1 := FX_sI hx e_h1
  have ef_h1 := EF_sI (EF.rf (S := S_X6_tagged) _) e_h1 (by decide)
  replace hf := nnE hf
  obtain ⟨a3, e_a3, hf⟩ := hf
  have sa_a3 := hx_h1 616 _ _ e_a3
  replace hf := nnE hf
  obtain ⟨a5, e_a5, hf⟩ := hf
  have sa_a5 := hx_h1 614 _ _ e_a5
  replace hf := ckE hf
  obtain ⟨c6, hf⟩ := hf
  replace hf := ckE hf
  obtain ⟨c7, hf⟩ := hf
  replace hf := bnE hf
  obtain ⟨h8, e_h8, hf⟩ := hf
  have hx_h8 := FX_sA hx_h1 e_h8
  have ef_h8 := EF_sA ef_h1 e_h8 (f := 616) (by decide) sa_a3
  replace hf := caE hf
  obtain ⟨v10, h9, e_h9, hf⟩ := hf
  have q_h9 := EFc ef_h8 (eX6_need F d hx_h8 e_h9) (by decide)
  have hx_h9 := q_h9.1
  have ef_h9 := q_h9.2
  by_cases c11 : v10 = 0
  · replace hf := ifp c11 hf
    cases hf
    exact ⟨hx_h9, ef_h9⟩
  · replace hf := ifn c11 hf
    replace hf := caE hf
    obtain ⟨v13, h12, e_h12, hf⟩ := hf
    have q_h12 := EFc ef_h9 (eX6_push F d hx_h9 e_h12) (by decide)
    have hx_h12 := q_h12.1
    have ef_h12 := q_h12.2
    cases hf
    exact ⟨hx_h12, ef_h12⟩
set_option maxHeartbeats 4000000 in
theorem eX6_tagged_84 (F d : Nat) (this : Nat) (x1 : Int32) (s0 : Nat) (s1 : Int32) (s2 : Int32) (h : Hp) (hx : FXs h) (sa_s0 : saF 619 s0 = true) {r : Int32 × Hp} (hf : fX6_tagged_84 F d this x1 s0 s1 s2 h = some r) : FXs r.2 ∧ EF S_X6_tagged h r.2 := by
  unfold fX6_tagged_84 at hf
  replace hf := ckE hf
  obtain ⟨c1, hf⟩ := hf
  replace hf := ckE hf
  obtain ⟨c3, hf⟩ := hf
  replace hf := bnE hf
  obtain ⟨h2, e_h2, hf⟩ := hf
  have hx_h2 := FX_sA hx e_h2
  have ef_h2 := EF_sA (EF.rf (S := S_X6_tagged) _) e_h2 (f := 619) (by decide) sa_s0
  replace hf := nnE hf
  obtain ⟨a5, e_a5, hf⟩ := hf
  have sa_a5 := hx_h2 619 _ _ e_a5
  replace hf := ckE hf
  obtain ⟨c6, hf⟩ := hf
  by_cases c7 : (gA h2 a5 (Int32.toNatClampNeg x1)) = 0
  · replace hf := ifp c7 hf
    exact EFj ef_h2 (eX6_tagged_104 F d _ _ _ _ _ _ hx_h2 hf)
  · replace hf := ifn c7 hf
    exact EFj ef_h2 (eX6_tagged_104 F d _ _ _ _ _ _ hx_h2 hf)
set_option maxHeartbeats 4000000 in
theorem eX6_tagged (F d : Nat) {this : Nat} {h : Hp} (hx : FXs h) {r : Int32 × Hp} (hf : fX6_tagged F d this h = some r) : FXs r.2 ∧ EF S_X6_tagged h r.2 := by
  unfold fX6_tagged at hf
  replace hf := bnE hf
  obtain ⟨h1, e_h1, hf⟩ := hf
  have hx_h1 := FX_sI hx e_h1
  have ef_h1 := EF_sI (EF.rf (S := S_X6_tagged) _) e_h1 (by decide)
  replace hf := caE hf
  obtain ⟨v3, h2, e_h2, hf⟩ := hf
  have q_h2 := EFc ef_h1 (eX6_add F d hx_h1 e_h2) (by decide)
  have hx_h2 := q_h2.1
  have ef_h2 := q_h2.2
  replace hf := nnE hf
  obtain ⟨a5, e_a5, hf⟩ := hf
  have sa_a5 := hx_h2 614 _ _ e_a5
  replace hf := caE hf
  obtain ⟨v7, h6, e_h6, hf⟩ := hf
  have q_h6 := EFc ef_h2 (eX6_look F d hx_h2 e_h6) (by decide)
  have hx_h6 := q_h6.1
  have ef_h6 := q_h6.2
  replace hf := ckE hf
  obtain ⟨c8, hf⟩ := hf
  replace hf := bnE hf
  obtain ⟨h9, e_h9, hf⟩ := hf
  have hx_h9 := FX_sA hx_h6 e_h9
  have ef_h9 := EF_sA ef_h6 e_h9 (f := 614) (by decide) sa_a5
  replace hf := nnE hf
  obtain ⟨a11, e_a11, hf⟩ := hf
  have sa_a11 := hx_h9 614 _ _ e_a11
  replace hf := ckE hf
  obtain ⟨c12, hf⟩ := hf
  replace hf := caE hf
  obtain ⟨v14, h13, e_h13, hf⟩ := hf
  have q_h13 := EFc ef_h9 (eX6_in F d hx_h9 e_h13) (by decide)
  have hx_h13 := q_h13.1
  have ef_h13 := q_h13.2
  by_cases c15 : v14 = 0
  · replace hf := ifp c15 hf
    replace hf := caE hf
    obtain ⟨v23, h22, e_h22, hf⟩ := hf
    have q_h22 := EFc ef_h13 (eX6_stop F d hx_h13 e_h22) (by decide)
    have hx_h22 := q_h22.1
    have ef_h22 := q_h22.2
    cases hf
    exact ⟨hx_h22, ef_h22⟩
  · replace hf := ifn c15 hf
    replace hf := bnE hf
    obtain ⟨h16, e_h16, hf⟩ := hf
    have hx_h16 := FX_sI hx_h13 e_h16
    have ef_h16 := EF_sI ef_h13 e_h16 (by decide)
    replace hf := nnE hf
    obtain ⟨a18, e_a18, hf⟩ := hf
    have sa_a18 := hx_h16 619 _ _ e_a18
    replace hf := caE hf
    obtain ⟨v20, h19, e_h19, hf⟩ := hf
    have q_h19 := EFc ef_h16 (eX6_look F d hx_h16 e_h19) (by decide)
    have hx_h19 := q_h19.1
    have ef_h19 := q_h19.2
    by_cases c21 : v20 = 33
    · replace hf := ifp c21 hf
      exact EFj ef_h19 (eX6_tagged_84 F d _ _ _ _ _ _ hx_h19 sa_a18 hf)
    · replace hf := ifn c21 hf
      exact EFj ef_h19 (eX6_tagged_84 F d _ _ _ _ _ _ hx_h19 sa_a18 hf)
abbrev S_X6_named : SS := ([603, 604], [], [], [], [])
set_option maxHeartbeats 4000000 in
theorem eX6_named (F d : Nat) {this : Nat} {p0 : Int32} {h : Hp} (hx : FXs h) {r : Int32 × Hp} (hf : fX6_named F d this p0 h = some r) : FXs r.2 ∧ EF S_X6_named h r.2 := by
  unfold fX6_named at hf
  replace hf := nnE hf
  obtain ⟨a2, e_a2, hf⟩ := hf
  have sa_a2 := hx 609 _ _ e_a2
  replace hf := ckE hf
  obtain ⟨c3, hf⟩ := hf
  by_cases c4 : 0 ≤ (gA h a2 (Int32.toNatClampNeg p0))
  · replace hf := ifp c4 hf
    replace hf := nnE hf
    obtain ⟨a6, e_a6, hf⟩ := hf
    have sa_a6 := hx 617 _ _ e_a6
    replace hf := nnE hf
    obtain ⟨a8, e_a8, hf⟩ := hf
    have sa_a8 := hx 609 _ _ e_a8
    replace hf := ckE hf
    obtain ⟨c9, hf⟩ := hf
    replace hf := ckE hf
    obtain ⟨c10, hf⟩ := hf
    by_cases c11 : ((gI h 605 this) + (gA h a6 (Int32.toNatClampNeg (gA h a8 (Int32.toNatClampNeg p0))))) < 6
    · replace hf := ifp c11 hf
      replace hf := bnE hf
      obtain ⟨h12, e_h12, hf⟩ := hf
      have hx_h12 := FX_sI hx e_h12
      have ef_h12 := EF_sI (EF.rf (S := S_X6_named) _) e_h12 (by decide)
      replace hf := nnE hf
      obtain ⟨a14, e_a14, hf⟩ := hf
      have sa_a14 := hx_h12 609 _ _ e_a14
      replace hf := ckE hf
      obtain ⟨c15, hf⟩ := hf
      cases hf
      exact ⟨hx_h12, ef_h12⟩
    · replace hf := ifn c11 hf
      replace hf := caE hf
      obtain ⟨v17, h16, e_h16, hf⟩ := hf
      have q_h16 := EFc (EF.rf (S := S_X6_named) _) (eX6_stop F d hx e_h16) (by decide)
      have hx_h16 := q_h16.1
      have ef_h16 := q_h16.2
      cases hf
      exact ⟨hx_h16, ef_h16⟩
  · replace hf := ifn c4 hf
    replace hf := caE hf
    obtain ⟨v19, h18, e_h18, hf⟩ := hf
    have q_h18 := EFc (EF.rf (S := S_X6_named) _) (eX6_stop F d hx e_h18) (by decide)
    have hx_h18 := q_h18.1
    have ef_h18 := q_h18.2
    cases hf
    exact ⟨hx_h18, ef_h18⟩
abbrev S_X6_numeral : SS := ([603, 604, 606], [], [], [], [])
set_option maxHeartbeats 4000000 in
theorem eX6_numeral_149 (F d : Nat) (this : Nat) (s0 : Nat) (s1 : Int32) (h : Hp) (hx : FXs h) {r : Int32 × Hp} (hf : fX6_numeral_149 F d this s0 s1 h = some r) : FXs r.2 ∧ EF S_X6_numeral h r.2 := by
  unfold fX6_numeral_149 at hf
  replace hf := bnE hf
  obtain ⟨h1, e_h1, hf⟩ := hf
  have hx_h1 := FX_sI hx e_h1
  have ef_h1 := EF_sI (EF.rf (S := S_X6_numeral) _) e_h1 (by decide)
  by_cases c2 : (gI h1 604 this) = 0
  · replace hf := ifp c2 hf
    cases hf
    exact ⟨hx_h1, ef_h1⟩
  · replace hf := ifn c2 hf
    cases hf
    exact ⟨hx_h1, ef_h1⟩
set_option maxHeartbeats 4000000 in
theorem eX6_numeral_138 (F d : Nat) (this : Nat) (x1 : Int32) (x2 : Int32) (h : Hp) (hx : FXs h) {r : Int32 × Hp} (hf : fX6_numeral_138 F d this x1 x2 h = some r) : FXs r.2 ∧ EF S_X6_numeral h r.2 := by
  unfold fX6_numeral_138 at hf
  by_cases c1 : x1 = 0
  · replace hf := ifp c1 hf
    exact EFj (EF.rf (S := S_X6_numeral) _) (eX6_numeral_149 F d _ _ _ _ hx hf)
  · replace hf := ifn c1 hf
    exact EFj (EF.rf (S := S_X6_numeral) _) (eX6_numeral_149 F d _ _ _ _ hx hf)
set_option maxHeartbeats 4000000 in
theorem eX6_numeral_114 (F d : Nat) (this : Nat) (x1 : Int32) (x2 : Int32) (h : Hp) (hx : FXs h) {r : Int32 × Hp} (hf : fX6_numeral_114 F d this x1 x2 h = some r) : FXs r.2 ∧ EF S_X6_numeral h r.2 := by
  unfold fX6_numeral_114 at hf
  replace hf := caE hf
  obtain ⟨v2, h1, e_h1, hf⟩ := hf
  have q_h1 := EFc (EF.rf (S := S_X6_numeral) _) (eX6_look F d hx e_h1) (by decide)
  have hx_h1 := q_h1.1
  have ef_h1 := q_h1.2
  replace hf := caE hf
  obtain ⟨v4, h3, e_h3, hf⟩ := hf
  have q_h3 := EFc ef_h1 (eX6_in F d hx_h1 e_h3) (by decide)
  have hx_h3 := q_h3.1
  have ef_h3 := q_h3.2
  by_cases c5 : v4 = 0
  · replace hf := ifp c5 hf
    exact EFj ef_h3 (eX6_numeral_138 F d _ _ _ _ hx_h3 hf)
  · replace hf := ifn c5 hf
    replace hf := caE hf
    obtain ⟨v7, h6, e_h6, hf⟩ := hf
    have q_h6 := EFc ef_h3 (eX6_stop F d hx_h3 e_h6) (by decide)
    have hx_h6 := q_h6.1
    have ef_h6 := q_h6.2
    exact EFj ef_h6 (eX6_numeral_138 F d _ _ _ _ hx_h6 hf)
set_option maxHeartbeats 4000000 in
theorem eX6_numeral_66 (F d : Nat) : ∀ (n : Nat) (this : Nat) (x1 : Int32) (x2 : Int32) (x3 : Int32) (h : Hp) (hx : FXs h) {r : Int32 × Hp}, fX6_numeral_66 F d n this x1 x2 x3 h = some r → FXs r.2 ∧ EF S_X6_numeral h r.2 := by
  intro n
  induction n with
  | zero => intro _ _ _ _ _ _ r hf; cases hf
  | succ n ih =>
    intro this x1 x2 x3 h hx r hf
    unfold fX6_numeral_66 at hf
    replace hf := caE hf
    obtain ⟨v2, h1, e_h1, hf⟩ := hf
    have q_h1 := EFc (EF.rf (S := S_X6_numeral) _) (eX6_look F d hx e_h1) (by decide)
    have hx_h1 := q_h1.1
    have ef_h1 := q_h1.2
    replace hf := caE hf
    obtain ⟨v4, h3, e_h3, hf⟩ := hf
    have q_h3 := EFc ef_h1 (eX6_in F d hx_h1 e_h3) (by decide)
    have hx_h3 := q_h3.1
    have ef_h3 := q_h3.2
    by_cases c5 : v4 = 0
    · replace hf := ifp c5 hf
      exact EFj ef_h3 (eX6_numeral_114 F d _ _ _ _ hx_h3 hf)
    · replace hf := ifn c5 hf
      by_cases c6 : x3 ≤ (gI h3 603 this)
      · replace hf := ifp c6 hf
        exact EFj ef_h3 (eX6_numeral_114 F d _ _ _ _ hx_h3 hf)
      · replace hf := ifn c6 hf
        replace hf := caE hf
        obtain ⟨v8, h7, e_h7, hf⟩ := hf
        have q_h7 := EFc ef_h3 (eX6_look F d hx_h3 e_h7) (by decide)
        have hx_h7 := q_h7.1
        have ef_h7 := q_h7.2
        replace hf := bnE hf
        obtain ⟨v9, e_v9, hf⟩ := hf
        replace hf := bnE hf
        obtain ⟨h10, e_h10, hf⟩ := hf
        have hx_h10 := FX_sI hx_h7 e_h10
        have ef_h10 := EF_sI ef_h7 e_h10 (by decide)
        exact EFj ef_h10 (ih _ _ _ _ _ hx_h10 hf)
set_option maxHeartbeats 4000000 in
theorem eX6_numeral_57 (F d : Nat) (this : Nat) (x1 : Int32) (h : Hp) (hx : FXs h) {r : Int32 × Hp} (hf : fX6_numeral_57 F d this x1 h = some r) : FXs r.2 ∧ EF S_X6_numeral h r.2 := by
  unfold fX6_numeral_57 at hf
  replace hf := bnE hf
  obtain ⟨v1, e_v1, hf⟩ := hf
  exact EFj (EF.rf (S := S_X6_numeral) _) (eX6_numeral_66 F d F _ _ _ _ _ hx hf)
set_option maxHeartbeats 4000000 in
theorem eX6_numeral_29 (F d : Nat) (this : Nat) (x1 : Int32) (s0 : Nat) (s1 : Int32) (s2 : Int32) (h : Hp) (hx : FXs h) {r : Int32 × Hp} (hf : fX6_numeral_29 F d this x1 s0 s1 s2 h = some r) : FXs r.2 ∧ EF S_X6_numeral h r.2 := by
  unfold fX6_numeral_29 at hf
  replace hf := bnE hf
  obtain ⟨h1, e_h1, hf⟩ := hf
  have hx_h1 := FX_sI hx e_h1
  have ef_h1 := EF_sI (EF.rf (S := S_X6_numeral) _) e_h1 (by decide)
  replace hf := caE hf
  obtain ⟨v3, h2, e_h2, hf⟩ := hf
  have q_h2 := EFc ef_h1 (eX6_look F d hx_h1 e_h2) (by decide)
  have hx_h2 := q_h2.1
  have ef_h2 := q_h2.2
  replace hf := caE hf
  obtain ⟨v5, h4, e_h4, hf⟩ := hf
  have q_h4 := EFc ef_h2 (eX6_in F d hx_h2 e_h4) (by decide)
  have hx_h4 := q_h4.1
  have ef_h4 := q_h4.2
  by_cases c6 : v5 = 0
  · replace hf := ifp c6 hf
    replace hf := caE hf
    obtain ⟨v8, h7, e_h7, hf⟩ := hf
    have q_h7 := EFc ef_h4 (eX6_stop F d hx_h4 e_h7) (by decide)
    have hx_h7 := q_h7.1
    have ef_h7 := q_h7.2
    exact EFj ef_h7 (eX6_numeral_57 F d _ _ _ hx_h7 hf)
  · replace hf := ifn c6 hf
    exact EFj ef_h4 (eX6_numeral_57 F d _ _ _ hx_h4 hf)
set_option maxHeartbeats 4000000 in
theorem eX6_numeral_14 (F d : Nat) (this : Nat) (s0 : Int32) (h : Hp) (hx : FXs h) {r : Int32 × Hp} (hf : fX6_numeral_14 F d this s0 h = some r) : FXs r.2 ∧ EF S_X6_numeral h r.2 := by
  unfold fX6_numeral_14 at hf
  by_cases c1 : s0 = 0
  · replace hf := ifp c1 hf
    exact EFj (EF.rf (S := S_X6_numeral) _) (eX6_numeral_29 F d _ _ _ _ _ _ hx hf)
  · replace hf := ifn c1 hf
    exact EFj (EF.rf (S := S_X6_numeral) _) (eX6_numeral_29 F d _ _ _ _ _ _ hx hf)
set_option maxHeartbeats 4000000 in
theorem eX6_numeral (F d : Nat) {this : Nat} {h : Hp} (hx : FXs h) {r : Int32 × Hp} (hf : fX6_numeral F d this h = some r) : FXs r.2 ∧ EF S_X6_numeral h r.2 := by
  unfold fX6_numeral at hf
  replace hf := caE hf
  obtain ⟨v2, h1, e_h1, hf⟩ := hf
  have q_h1 := EFc (EF.rf (S := S_X6_numeral) _) (eX6_look F d hx e_h1) (by decide)
  have hx_h1 := q_h1.1
  have ef_h1 := q_h1.2
  by_cases c3 : v2 = 45
  · replace hf := ifp c3 hf
    exact EFj ef_h1 (eX6_numeral_14 F d _ _ _ hx_h1 hf)
  · replace hf := ifn c3 hf
    exact EFj ef_h1 (eX6_numeral_14 F d _ _ _ hx_h1 hf)
abbrev S_X6_ranged : SS := ([603, 604, 606], [], [612, 613, 618], [], [])
set_option maxHeartbeats 4000000 in
theorem eX6_ranged_159 (F d : Nat) (this : Nat) (h : Hp) (hx : FXs h) {r : Hp} (hf : fX6_ranged_159 F d this h = some r) : FXs r ∧ EF S_X6_ranged h r := by
  unfold fX6_ranged_159 at hf
  replace hf := caE hf
  obtain ⟨v2, h1, e_h1, hf⟩ := hf
  have q_h1 := EFc (EF.rf (S := S_X6_ranged) _) (eX6_need F d hx e_h1) (by decide)
  have hx_h1 := q_h1.1
  have ef_h1 := q_h1.2
  cases hf
  exact ⟨hx_h1, ef_h1⟩
set_option maxHeartbeats 4000000 in
theorem eX6_ranged_146 (F d : Nat) (this : Nat) (h : Hp) (hx : FXs h) {r : Hp} (hf : fX6_ranged_146 F d this h = some r) : FXs r ∧ EF S_X6_ranged h r := by
  unfold fX6_ranged_146 at hf
  replace hf := caE hf
  obtain ⟨v2, h1, e_h1, hf⟩ := hf
  have q_h1 := EFc (EF.rf (S := S_X6_ranged) _) (eX6_stop F d hx e_h1) (by decide)
  have hx_h1 := q_h1.1
  have ef_h1 := q_h1.2
  cases hf
  exact ⟨hx_h1, ef_h1⟩
set_option maxHeartbeats 4000000 in
theorem eX6_ranged_117 (F d : Nat) (this : Nat) (x1 : Int32) (s0 : Int32) (h : Hp) (hx : FXs h) {r : Hp} (hf : fX6_ranged_117 F d this x1 s0 h = some r) : FXs r ∧ EF S_X6_ranged h r := by
  unfold fX6_ranged_117 at hf
  replace hf := caE hf
  obtain ⟨v2, h1, e_h1, hf⟩ := hf
  have q_h1 := EFc (EF.rf (S := S_X6_ranged) _) (eX6_look F d hx e_h1) (by decide)
  have hx_h1 := q_h1.1
  have ef_h1 := q_h1.2
  by_cases c3 : v2 = 41
  · replace hf := ifp c3 hf
    replace hf := nnE hf
    obtain ⟨a5, e_a5, hf⟩ := hf
    have sa_a5 := hx_h1 612 _ _ e_a5
    replace hf := ckE hf
    obtain ⟨c6, hf⟩ := hf
    replace hf := nnE hf
    obtain ⟨a8, e_a8, hf⟩ := hf
    have sa_a8 := hx_h1 613 _ _ e_a8
    replace hf := ckE hf
    obtain ⟨c9, hf⟩ := hf
    by_cases c10 : (gA h1 a8 (Int32.toNatClampNeg x1)) < (gA h1 a5 (Int32.toNatClampNeg x1))
    · replace hf := ifp c10 hf
      exact EFj ef_h1 (eX6_ranged_146 F d _ _ hx_h1 hf)
    · replace hf := ifn c10 hf
      by_cases c11 : s0 = 0
      · replace hf := ifp c11 hf
        exact EFj ef_h1 (eX6_ranged_146 F d _ _ hx_h1 hf)
      · replace hf := ifn c11 hf
        exact EFj ef_h1 (eX6_ranged_159 F d _ _ hx_h1 hf)
  · replace hf := ifn c3 hf
    exact EFj ef_h1 (eX6_ranged_159 F d _ _ hx_h1 hf)
set_option maxHeartbeats 4000000 in
theorem eX6_ranged_116 (F d : Nat) (this : Nat) (x1 : Int32) (h : Hp) (hx : FXs h) {r : Hp} (hf : fX6_ranged_116 F d this x1 h = some r) : FXs r ∧ EF S_X6_ranged h r := by
  unfold fX6_ranged_116 at hf
  exact EFj (EF.rf (S := S_X6_ranged) _) (eX6_ranged_117 F d _ _ _ _ hx hf)
set_option maxHeartbeats 4000000 in
theorem eX6_ranged (F d : Nat) {this : Nat} {p0 : Int32} {p1 : Int32} {h : Hp} (hx : FXs h) {r : Hp} (hf : fX6_ranged F d this p0 p1 h = some r) : FXs r ∧ EF S_X6_ranged h r := by
  unfold fX6_ranged at hf
  replace hf := bnE hf
  obtain ⟨h1, e_h1, hf⟩ := hf
  have hx_h1 := FX_sI hx e_h1
  have ef_h1 := EF_sI (EF.rf (S := S_X6_ranged) _) e_h1 (by decide)
  replace hf := caE hf
  obtain ⟨v3, h2, e_h2, hf⟩ := hf
  have q_h2 := EFc ef_h1 (eX6_numeral F d hx_h1 e_h2) (by decide)
  have hx_h2 := q_h2.1
  have ef_h2 := q_h2.2
  by_cases c4 : v3 = 0
  · replace hf := ifp c4 hf
    cases hf
    exact ⟨hx_h2, ef_h2⟩
  · replace hf := ifn c4 hf
    replace hf := nnE hf
    obtain ⟨a6, e_a6, hf⟩ := hf
    have sa_a6 := hx_h2 612 _ _ e_a6
    replace hf := ckE hf
    obtain ⟨c7, hf⟩ := hf
    replace hf := bnE hf
    obtain ⟨h8, e_h8, hf⟩ := hf
    have hx_h8 := FX_sA hx_h2 e_h8
    have ef_h8 := EF_sA ef_h2 e_h8 (f := 612) (by decide) sa_a6
    replace hf := caE hf
    obtain ⟨v10, h9, e_h9, hf⟩ := hf
    have q_h9 := EFc ef_h8 (eX6_need F d hx_h8 e_h9) (by decide)
    have hx_h9 := q_h9.1
    have ef_h9 := q_h9.2
    by_cases c11 : v10 = 0
    · replace hf := ifp c11 hf
      cases hf
      exact ⟨hx_h9, ef_h9⟩
    · replace hf := ifn c11 hf
      replace hf := caE hf
      obtain ⟨v13, h12, e_h12, hf⟩ := hf
      have q_h12 := EFc ef_h9 (eX6_numeral F d hx_h9 e_h12) (by decide)
      have hx_h12 := q_h12.1
      have ef_h12 := q_h12.2
      by_cases c14 : v13 = 0
      · replace hf := ifp c14 hf
        cases hf
        exact ⟨hx_h12, ef_h12⟩
      · replace hf := ifn c14 hf
        replace hf := nnE hf
        obtain ⟨a16, e_a16, hf⟩ := hf
        have sa_a16 := hx_h12 613 _ _ e_a16
        replace hf := ckE hf
        obtain ⟨c17, hf⟩ := hf
        replace hf := bnE hf
        obtain ⟨h18, e_h18, hf⟩ := hf
        have hx_h18 := FX_sA hx_h12 e_h18
        have ef_h18 := EF_sA ef_h12 e_h18 (f := 613) (by decide) sa_a16
        replace hf := nnE hf
        obtain ⟨a20, e_a20, hf⟩ := hf
        have sa_a20 := hx_h18 618 _ _ e_a20
        replace hf := ckE hf
        obtain ⟨c21, hf⟩ := hf
        replace hf := bnE hf
        obtain ⟨h22, e_h22, hf⟩ := hf
        have hx_h22 := FX_sA hx_h18 e_h22
        have ef_h22 := EF_sA ef_h18 e_h22 (f := 618) (by decide) sa_a20
        by_cases c23 : p1 = 0
        · replace hf := ifp c23 hf
          replace hf := nnE hf
          obtain ⟨a25, e_a25, hf⟩ := hf
          have sa_a25 := hx_h22 612 _ _ e_a25
          replace hf := ckE hf
          obtain ⟨c26, hf⟩ := hf
          by_cases c27 : (gA h22 a25 (Int32.toNatClampNeg p0)) < 0
          · replace hf := ifp c27 hf
            exact EFj ef_h22 (eX6_ranged_116 F d _ _ _ hx_h22 hf)
          · replace hf := ifn c27 hf
            replace hf := nnE hf
            obtain ⟨a29, e_a29, hf⟩ := hf
            have sa_a29 := hx_h22 613 _ _ e_a29
            replace hf := ckE hf
            obtain ⟨c30, hf⟩ := hf
            by_cases c31 : 20 < (gA h22 a29 (Int32.toNatClampNeg p0))
            · replace hf := ifp c31 hf
              exact EFj ef_h22 (eX6_ranged_116 F d _ _ _ hx_h22 hf)
            · replace hf := ifn c31 hf
              exact EFj ef_h22 (eX6_ranged_117 F d _ _ _ _ hx_h22 hf)
        · replace hf := ifn c23 hf
          replace hf := nnE hf
          obtain ⟨a33, e_a33, hf⟩ := hf
          have sa_a33 := hx_h22 613 _ _ e_a33
          replace hf := ckE hf
          obtain ⟨c34, hf⟩ := hf
          replace hf := nnE hf
          obtain ⟨a36, e_a36, hf⟩ := hf
          have sa_a36 := hx_h22 612 _ _ e_a36
          replace hf := ckE hf
          obtain ⟨c37, hf⟩ := hf
          by_cases c38 : 65536 ≤ ((gA h22 a33 (Int32.toNatClampNeg p0)) - (gA h22 a36 (Int32.toNatClampNeg p0)))
          · replace hf := ifp c38 hf
            exact EFj ef_h22 (eX6_ranged_117 F d _ _ _ _ hx_h22 hf)
          · replace hf := ifn c38 hf
            exact EFj ef_h22 (eX6_ranged_117 F d _ _ _ _ hx_h22 hf)
abbrev S_X6_begin : SS := ([603, 604, 605, 606, 610], [], [608, 611, 612, 613, 614, 615, 616, 617, 618, 619], [], [])
set_option maxHeartbeats 4000000 in
theorem eX6_begin_198 (F d : Nat) (this : Nat) (x3 : Int32) (h : Hp) (hx : FXs h) {r : Int32 × Hp} (hf : fX6_begin_198 F d this x3 h = some r) : FXs r.2 ∧ EF S_X6_begin h r.2 := by
  unfold fX6_begin_198 at hf
  replace hf := caE hf
  obtain ⟨v2, h1, e_h1, hf⟩ := hf
  have q_h1 := EFc (EF.rf (S := S_X6_begin) _) (eX6_push F d hx e_h1) (by decide)
  have hx_h1 := q_h1.1
  have ef_h1 := q_h1.2
  cases hf
  exact ⟨hx_h1, ef_h1⟩
set_option maxHeartbeats 4000000 in
theorem eX6_begin_172 (F d : Nat) (this : Nat) (x2 : Int32) (x3 : Int32) (h : Hp) (hx : FXs h) {r : Int32 × Hp} (hf : fX6_begin_172 F d this x2 x3 h = some r) : FXs r.2 ∧ EF S_X6_begin h r.2 := by
  unfold fX6_begin_172 at hf
  replace hf := caE hf
  obtain ⟨v2, h1, e_h1, hf⟩ := hf
  have q_h1 := EFc (EF.rf (S := S_X6_begin) _) (eX6_need F d hx e_h1) (by decide)
  have hx_h1 := q_h1.1
  have ef_h1 := q_h1.2
  by_cases c3 : v2 = 0
  · replace hf := ifp c3 hf
    cases hf
    exact ⟨hx_h1, ef_h1⟩
  · replace hf := ifn c3 hf
    by_cases c4 : x2 = 9
    · replace hf := ifp c4 hf
      exact EFj ef_h1 (eX6_begin_198 F d _ _ _ hx_h1 hf)
    · replace hf := ifn c4 hf
      replace hf := caE hf
      obtain ⟨v6, h5, e_h5, hf⟩ := hf
      have q_h5 := EFc ef_h1 (eX6_look F d hx_h1 e_h5) (by decide)
      have hx_h5 := q_h5.1
      have ef_h5 := q_h5.2
      by_cases c7 : v6 = 125
      · replace hf := ifp c7 hf
        replace hf := bnE hf
        obtain ⟨h8, e_h8, hf⟩ := hf
        have hx_h8 := FX_sI hx_h5 e_h8
        have ef_h8 := EF_sI ef_h5 e_h8 (by decide)
        cases hf
        exact ⟨hx_h8, ef_h8⟩
      · replace hf := ifn c7 hf
        exact EFj ef_h5 (eX6_begin_198 F d _ _ _ hx_h5 hf)
set_option maxHeartbeats 4000000 in
theorem eX6_begin_250 (F d : Nat) (this : Nat) (x2 : Int32) (x3 : Int32) (h : Hp) (hx : FXs h) {r : Int32 × Hp} (hf : fX6_begin_250 F d this x2 x3 h = some r) : FXs r.2 ∧ EF S_X6_begin h r.2 := by
  unfold fX6_begin_250 at hf
  by_cases c1 : (gI h 604 this) ≤ 0
  · replace hf := ifp c1 hf
    by_cases c2 : x2 = 7
    · replace hf := ifp c2 hf
      replace hf := caE hf
      obtain ⟨v4, h3, e_h3, hf⟩ := hf
      have q_h3 := EFc (EF.rf (S := S_X6_begin) _) (eX6_push F d hx e_h3) (by decide)
      have hx_h3 := q_h3.1
      have ef_h3 := q_h3.2
      cases hf
      exact ⟨hx_h3, ef_h3⟩
    · replace hf := ifn c2 hf
      cases hf
      exact ⟨hx, (EF.rf (S := S_X6_begin) _)⟩
  · replace hf := ifn c1 hf
    cases hf
    exact ⟨hx, (EF.rf (S := S_X6_begin) _)⟩
set_option maxHeartbeats 4000000 in
theorem eX6_begin_247 (F d : Nat) (this : Nat) (x2 : Int32) (x3 : Int32) (s0 : Nat) (s1 : Int32) (s2 : Int32) (h : Hp) (hx : FXs h) {r : Int32 × Hp} (hf : fX6_begin_247 F d this x2 x3 s0 s1 s2 h = some r) : FXs r.2 ∧ EF S_X6_begin h r.2 := by
  unfold fX6_begin_247 at hf
  replace hf := cvE hf
  obtain ⟨h1, e_h1, hf⟩ := hf
  have q_h1 := EFc (EF.rf (S := S_X6_begin) _) (eX6_ranged F d hx e_h1) (by decide)
  have hx_h1 := q_h1.1
  have ef_h1 := q_h1.2
  exact EFj ef_h1 (eX6_begin_250 F d _ _ _ _ hx_h1 hf)
set_option maxHeartbeats 4000000 in
theorem eX6_begin_110 (F d : Nat) (this : Nat) (s0 : Int32) (h : Hp) (hx : FXs h) {r : Int32 × Hp} (hf : fX6_begin_110 F d this s0 h = some r) : FXs r.2 ∧ EF S_X6_begin h r.2 := by
  unfold fX6_begin_110 at hf
  by_cases c1 : s0 = 0
  · replace hf := ifp c1 hf
    replace hf := caE hf
    obtain ⟨v17, h16, e_h16, hf⟩ := hf
    have q_h16 := EFc (EF.rf (S := S_X6_begin) _) (eX6_stop F d hx e_h16) (by decide)
    have hx_h16 := q_h16.1
    have ef_h16 := q_h16.2
    cases hf
    exact ⟨hx_h16, ef_h16⟩
  · replace hf := ifn c1 hf
    by_cases c2 : (gI h 605 this) < 6
    · replace hf := ifp c2 hf
      replace hf := bnE hf
      obtain ⟨h3, e_h3, hf⟩ := hf
      have hx_h3 := FX_sI hx e_h3
      have ef_h3 := EF_sI (EF.rf (S := S_X6_begin) _) e_h3 (by decide)
      replace hf := caE hf
      obtain ⟨v5, h4, e_h4, hf⟩ := hf
      have q_h4 := EFc ef_h3 (eX6_add F d hx_h3 e_h4) (by decide)
      have hx_h4 := q_h4.1
      have ef_h4 := q_h4.2
      by_cases c6 : s0 = 6
      · replace hf := ifp c6 hf
        exact EFj ef_h4 (eX6_begin_172 F d _ _ _ _ hx_h4 hf)
      · replace hf := ifn c6 hf
        by_cases c7 : s0 = 9
        · replace hf := ifp c7 hf
          exact EFj ef_h4 (eX6_begin_172 F d _ _ _ _ hx_h4 hf)
        · replace hf := ifn c7 hf
          by_cases c8 : s0 = 1
          · replace hf := ifp c8 hf
            exact EFj ef_h4 (eX6_begin_250 F d _ _ _ _ hx_h4 hf)
          · replace hf := ifn c8 hf
            by_cases c9 : s0 = 5
            · replace hf := ifp c9 hf
              exact EFj ef_h4 (eX6_begin_250 F d _ _ _ _ hx_h4 hf)
            · replace hf := ifn c9 hf
              replace hf := caE hf
              obtain ⟨v11, h10, e_h10, hf⟩ := hf
              have q_h10 := EFc ef_h4 (eX6_look F d hx_h4 e_h10) (by decide)
              have hx_h10 := q_h10.1
              have ef_h10 := q_h10.2
              by_cases c12 : v11 = 40
              · replace hf := ifp c12 hf
                by_cases c13 : s0 = 2
                · replace hf := ifp c13 hf
                  exact EFj ef_h10 (eX6_begin_247 F d _ _ _ _ _ _ _ hx_h10 hf)
                · replace hf := ifn c13 hf
                  exact EFj ef_h10 (eX6_begin_247 F d _ _ _ _ _ _ _ hx_h10 hf)
              · replace hf := ifn c12 hf
                exact EFj ef_h10 (eX6_begin_250 F d _ _ _ _ hx_h10 hf)
    · replace hf := ifn c2 hf
      replace hf := caE hf
      obtain ⟨v15, h14, e_h14, hf⟩ := hf
      have q_h14 := EFc (EF.rf (S := S_X6_begin) _) (eX6_stop F d hx e_h14) (by decide)
      have hx_h14 := q_h14.1
      have ef_h14 := q_h14.2
      cases hf
      exact ⟨hx_h14, ef_h14⟩
set_option maxHeartbeats 4000000 in
theorem eX6_begin (F d : Nat) {this : Nat} {h : Hp} (hx : FXs h) {r : Int32 × Hp} (hf : fX6_begin F d this h = some r) : FXs r.2 ∧ EF S_X6_begin h r.2 := by
  unfold fX6_begin at hf
  replace hf := caE hf
  obtain ⟨v2, h1, e_h1, hf⟩ := hf
  have q_h1 := EFc (EF.rf (S := S_X6_begin) _) (eX6_look F d hx e_h1) (by decide)
  have hx_h1 := q_h1.1
  have ef_h1 := q_h1.2
  by_cases c3 : v2 = 91
  · replace hf := ifp c3 hf
    replace hf := caE hf
    obtain ⟨v17, h16, e_h16, hf⟩ := hf
    have q_h16 := EFc ef_h1 (eX6_tagged F d hx_h1 e_h16) (by decide)
    have hx_h16 := q_h16.1
    have ef_h16 := q_h16.2
    cases hf
    exact ⟨hx_h16, ef_h16⟩
  · replace hf := ifn c3 hf
    replace hf := caE hf
    obtain ⟨v5, h4, e_h4, hf⟩ := hf
    have q_h4 := EFc ef_h1 (eX6_in F d hx_h1 e_h4) (by decide)
    have hx_h4 := q_h4.1
    have ef_h4 := q_h4.2
    by_cases c6 : v5 = 0
    · replace hf := ifp c6 hf
      by_cases c7 : v2 = 98
      · replace hf := ifp c7 hf
        exact EFj ef_h4 (eX6_begin_110 F d _ _ _ hx_h4 hf)
      · replace hf := ifn c7 hf
        by_cases c8 : v2 = 105
        · replace hf := ifp c8 hf
          exact EFj ef_h4 (eX6_begin_110 F d _ _ _ hx_h4 hf)
        · replace hf := ifn c8 hf
          by_cases c9 : v2 = 111
          · replace hf := ifp c9 hf
            exact EFj ef_h4 (eX6_begin_110 F d _ _ _ hx_h4 hf)
          · replace hf := ifn c9 hf
            by_cases c10 : v2 = 110
            · replace hf := ifp c10 hf
              exact EFj ef_h4 (eX6_begin_110 F d _ _ _ hx_h4 hf)
            · replace hf := ifn c10 hf
              by_cases c11 : v2 = 113
              · replace hf := ifp c11 hf
                exact EFj ef_h4 (eX6_begin_110 F d _ _ _ hx_h4 hf)
              · replace hf := ifn c11 hf
                by_cases c12 : v2 = 108
                · replace hf := ifp c12 hf
                  exact EFj ef_h4 (eX6_begin_110 F d _ _ _ hx_h4 hf)
                · replace hf := ifn c12 hf
                  by_cases c13 : v2 = 99
                  · replace hf := ifp c13 hf
                    exact EFj ef_h4 (eX6_begin_110 F d _ _ _ hx_h4 hf)
                  · replace hf := ifn c13 hf
                    exact EFj ef_h4 (eX6_begin_110 F d _ _ _ hx_h4 hf)
    · replace hf := ifn c6 hf
      replace hf := caE hf
      obtain ⟨v15, h14, e_h14, hf⟩ := hf
      have q_h14 := EFc ef_h4 (eX6_named F d hx_h4 e_h14) (by decide)
      have hx_h14 := q_h14.1
      have ef_h14 := q_h14.2
      cases hf
      exact ⟨hx_h14, ef_h14⟩
abbrev S_X6_unwrap : SS := ([623, 624], [], [625, 626], [], [])
set_option maxHeartbeats 4000000 in
theorem eX6_unwrap_225 (F d : Nat) (k_102 : Nat → Int32 → Int32 → Hp → Option (Hp)) (hk_102 : ∀ (this : Nat) (x2 : Int32) (x3 : Int32) (h : Hp) (hx : FXs h) {r : Hp}, k_102 this x2 x3 h = some r → FXs r ∧ EF S_X6_unwrap h r) (this : Nat) (x2 : Int32) (x3 : Int32) (h : Hp) (hx : FXs h) {r : Hp} (hf : fX6_unwrap_225 F d k_102 this x2 x3 h = some r) : FXs r ∧ EF S_X6_unwrap h r := by
  unfold fX6_unwrap_225 at hf
  exact EFj (EF.rf (S := S_X6_unwrap) _) (hk_102 _ _ _ _ hx hf)
set_option maxHeartbeats 4000000 in
theorem eX6_unwrap_200 (F d : Nat) (k_102 : Nat → Int32 → Int32 → Hp → Option (Hp)) (hk_102 : ∀ (this : Nat) (x2 : Int32) (x3 : Int32) (h : Hp) (hx : FXs h) {r : Hp}, k_102 this x2 x3 h = some r → FXs r ∧ EF S_X6_unwrap h r) (this : Nat) (x2 : Int32) (x3 : Int32) (x4 : Int32) (h : Hp) (hx : FXs h) {r : Hp} (hf : fX6_unwrap_200 F d k_102 this x2 x3 x4 h = some r) : FXs r ∧ EF S_X6_unwrap h r := by
  unfold fX6_unwrap_200 at hf
  replace hf := nnE hf
  obtain ⟨a2, e_a2, hf⟩ := hf
  have sa_a2 := hx 625 _ _ e_a2
  replace hf := ckE hf
  obtain ⟨c3, hf⟩ := hf
  replace hf := bnE hf
  obtain ⟨h4, e_h4, hf⟩ := hf
  have hx_h4 := FX_sA hx e_h4
  have ef_h4 := EF_sA (EF.rf (S := S_X6_unwrap) _) e_h4 (f := 625) (by decide) sa_a2
  replace hf := bnE hf
  obtain ⟨h5, e_h5, hf⟩ := hf
  have hx_h5 := FX_sI hx_h4 e_h5
  have ef_h5 := EF_sI ef_h4 e_h5 (by decide)
  exact EFj ef_h5 (eX6_unwrap_225 F d k_102 hk_102 _ _ _ _ hx_h5 hf)
set_option maxHeartbeats 4000000 in
theorem eX6_unwrap_193 (F d : Nat) (k_102 : Nat → Int32 → Int32 → Hp → Option (Hp)) (hk_102 : ∀ (this : Nat) (x2 : Int32) (x3 : Int32) (h : Hp) (hx : FXs h) {r : Hp}, k_102 this x2 x3 h = some r → FXs r ∧ EF S_X6_unwrap h r) (this : Nat) (x2 : Int32) (x3 : Int32) (x4 : Int32) (s0 : Nat) (s1 : Int32) (s2 : Int32) (h : Hp) (hx : FXs h) (sa_s0 : saF 625 s0 = true) {r : Hp} (hf : fX6_unwrap_193 F d k_102 this x2 x3 x4 s0 s1 s2 h = some r) : FXs r ∧ EF S_X6_unwrap h r := by
  unfold fX6_unwrap_193 at hf
  replace hf := ckE hf
  obtain ⟨c1, hf⟩ := hf
  replace hf := bnE hf
  obtain ⟨h2, e_h2, hf⟩ := hf
  have hx_h2 := FX_sA hx e_h2
  have ef_h2 := EF_sA (EF.rf (S := S_X6_unwrap) _) e_h2 (f := 625) (by decide) sa_s0
  exact EFj ef_h2 (eX6_unwrap_225 F d k_102 hk_102 _ _ _ _ hx_h2 hf)
set_option maxHeartbeats 4000000 in
theorem eX6_unwrap_146 (F d : Nat) (k_102 : Nat → Int32 → Int32 → Hp → Option (Hp)) (hk_102 : ∀ (this : Nat) (x2 : Int32) (x3 : Int32) (h : Hp) (hx : FXs h) {r : Hp}, k_102 this x2 x3 h = some r → FXs r ∧ EF S_X6_unwrap h r) (this : Nat) (x2 : Int32) (x3 : Int32) (x4 : Int32) (s0 : Int32) (h : Hp) (hx : FXs h) {r : Hp} (hf : fX6_unwrap_146 F d k_102 this x2 x3 x4 s0 h = some r) : FXs r ∧ EF S_X6_unwrap h r := by
  unfold fX6_unwrap_146 at hf
  replace hf := nnE hf
  obtain ⟨a2, e_a2, hf⟩ := hf
  have sa_a2 := hx 619 _ _ e_a2
  replace hf := nnE hf
  obtain ⟨a4, e_a4, hf⟩ := hf
  have sa_a4 := hx 626 _ _ e_a4
  replace hf := ckE hf
  obtain ⟨c5, hf⟩ := hf
  replace hf := ckE hf
  obtain ⟨c6, hf⟩ := hf
  by_cases c7 : (gA h a2 (Int32.toNatClampNeg (gA h a4 (Int32.toNatClampNeg x2)))) = 0
  · replace hf := ifp c7 hf
    exact EFj (EF.rf (S := S_X6_unwrap) _) (eX6_unwrap_200 F d k_102 hk_102 _ _ _ _ _ hx hf)
  · replace hf := ifn c7 hf
    by_cases c8 : (gI h 624 this) ≤ 0
    · replace hf := ifp c8 hf
      exact EFj (EF.rf (S := S_X6_unwrap) _) (eX6_unwrap_200 F d k_102 hk_102 _ _ _ _ _ hx hf)
    · replace hf := ifn c8 hf
      replace hf := nnE hf
      obtain ⟨a10, e_a10, hf⟩ := hf
      have sa_a10 := hx 625 _ _ e_a10
      by_cases c11 : s0 = 0
      · replace hf := ifp c11 hf
        exact EFj (EF.rf (S := S_X6_unwrap) _) (eX6_unwrap_193 F d k_102 hk_102 _ _ _ _ _ _ _ _ hx sa_a10 hf)
      · replace hf := ifn c11 hf
        exact EFj (EF.rf (S := S_X6_unwrap) _) (eX6_unwrap_193 F d k_102 hk_102 _ _ _ _ _ _ _ _ hx sa_a10 hf)
set_option maxHeartbeats 4000000 in
theorem eX6_unwrap_141 (F d : Nat) (k_102 : Nat → Int32 → Int32 → Hp → Option (Hp)) (hk_102 : ∀ (this : Nat) (x2 : Int32) (x3 : Int32) (h : Hp) (hx : FXs h) {r : Hp}, k_102 this x2 x3 h = some r → FXs r ∧ EF S_X6_unwrap h r) (this : Nat) (x2 : Int32) (x3 : Int32) (x4 : Int32) (h : Hp) (hx : FXs h) {r : Hp} (hf : fX6_unwrap_141 F d k_102 this x2 x3 x4 h = some r) : FXs r ∧ EF S_X6_unwrap h r := by
  unfold fX6_unwrap_141 at hf
  exact EFj (EF.rf (S := S_X6_unwrap) _) (eX6_unwrap_146 F d k_102 hk_102 _ _ _ _ _ _ hx hf)
set_option maxHeartbeats 4000000 in
theorem eX6_unwrap_102 (F d : Nat) : ∀ (n : Nat) (this : Nat) (x2 : Int32) (x3 : Int32) (h : Hp) (hx : FXs h) {r : Hp}, fX6_unwrap_102 F d n this x2 x3 h = some r → FXs r ∧ EF S_X6_unwrap h r := by
  intro n
  induction n with
  | zero => intro _ _ _ _ _ r hf; cases hf
  | succ n ih =>
    intro this x2 x3 h hx r hf
    unfold fX6_unwrap_102 at hf
    by_cases c1 : x2 ≤ 0
    · replace hf := ifp c1 hf
      cases hf
      exact ⟨hx, (EF.rf (S := S_X6_unwrap) _)⟩
    · replace hf := ifn c1 hf
      replace hf := bnE hf
      obtain ⟨v2, e_v2, hf⟩ := hf
      replace hf := nnE hf
      obtain ⟨a4, e_a4, hf⟩ := hf
      have sa_a4 := hx 614 _ _ e_a4
      replace hf := nnE hf
      obtain ⟨a6, e_a6, hf⟩ := hf
      have sa_a6 := hx 626 _ _ e_a6
      replace hf := ckE hf
      obtain ⟨c7, hf⟩ := hf
      replace hf := ckE hf
      obtain ⟨c8, hf⟩ := hf
      replace hf := bnE hf
      obtain ⟨v9, e_v9, hf⟩ := hf
      by_cases c10 : 1 < (gI h 624 this)
      · replace hf := ifp c10 hf
        exact EFj (EF.rf (S := S_X6_unwrap) _) (eX6_unwrap_141 F d (fX6_unwrap_102 F d n) ih _ _ _ _ _ hx hf)
      · replace hf := ifn c10 hf
        replace hf := caE hf
        obtain ⟨v12, h11, e_h11, hf⟩ := hf
        have q_h11 := EFc (EF.rf (S := S_X6_unwrap) _) (eX6_in F d hx e_h11) (by decide)
        have hx_h11 := q_h11.1
        have ef_h11 := q_h11.2
        by_cases c13 : v12 = 0
        · replace hf := ifp c13 hf
          exact EFj ef_h11 (eX6_unwrap_146 F d (fX6_unwrap_102 F d n) ih _ _ _ _ _ _ hx_h11 hf)
        · replace hf := ifn c13 hf
          exact EFj ef_h11 (eX6_unwrap_141 F d (fX6_unwrap_102 F d n) ih _ _ _ _ _ hx_h11 hf)
set_option maxHeartbeats 4000000 in
theorem eX6_unwrap_101 (F d : Nat) (this : Nat) (x2 : Int32) (x3 : Int32) (s0 : Nat) (s1 : Int32) (s2 : Int32) (h : Hp) (hx : FXs h) (sa_s0 : saF 625 s0 = true) {r : Hp} (hf : fX6_unwrap_101 F d this x2 x3 s0 s1 s2 h = some r) : FXs r ∧ EF S_X6_unwrap h r := by
  unfold fX6_unwrap_101 at hf
  replace hf := ckE hf
  obtain ⟨c1, hf⟩ := hf
  replace hf := bnE hf
  obtain ⟨h2, e_h2, hf⟩ := hf
  have hx_h2 := FX_sA hx e_h2
  have ef_h2 := EF_sA (EF.rf (S := S_X6_unwrap) _) e_h2 (f := 625) (by decide) sa_s0
  exact EFj ef_h2 (eX6_unwrap_102 F d F _ _ _ _ hx_h2 hf)
set_option maxHeartbeats 4000000 in
theorem eX6_unwrap_95 (F d : Nat) (this : Nat) (x2 : Int32) (x3 : Int32) (s0 : Nat) (s1 : Int32) (h : Hp) (hx : FXs h) (sa_s0 : saF 625 s0 = true) {r : Hp} (hf : fX6_unwrap_95 F d this x2 x3 s0 s1 h = some r) : FXs r ∧ EF S_X6_unwrap h r := by
  unfold fX6_unwrap_95 at hf
  exact EFj (EF.rf (S := S_X6_unwrap) _) (eX6_unwrap_101 F d _ _ _ _ _ _ _ hx sa_s0 hf)
set_option maxHeartbeats 4000000 in
theorem eX6_unwrap_75 (F d : Nat) (this : Nat) (x2 : Int32) (x3 : Int32) (s0 : Nat) (s1 : Int32) (h : Hp) (hx : FXs h) {r : Hp} (hf : fX6_unwrap_75 F d this x2 x3 s0 s1 h = some r) : FXs r ∧ EF S_X6_unwrap h r := by
  unfold fX6_unwrap_75 at hf
  replace hf := bnE hf
  obtain ⟨h1, e_h1, hf⟩ := hf
  have hx_h1 := FX_sI hx e_h1
  have ef_h1 := EF_sI (EF.rf (S := S_X6_unwrap) _) e_h1 (by decide)
  replace hf := nnE hf
  obtain ⟨a3, e_a3, hf⟩ := hf
  have sa_a3 := hx_h1 625 _ _ e_a3
  by_cases c4 : x3 = 6
  · replace hf := ifp c4 hf
    exact EFj ef_h1 (eX6_unwrap_95 F d _ _ _ _ _ _ hx_h1 sa_a3 hf)
  · replace hf := ifn c4 hf
    by_cases c5 : x3 = 7
    · replace hf := ifp c5 hf
      exact EFj ef_h1 (eX6_unwrap_95 F d _ _ _ _ _ _ hx_h1 sa_a3 hf)
    · replace hf := ifn c5 hf
      exact EFj ef_h1 (eX6_unwrap_101 F d _ _ _ _ _ _ _ hx_h1 sa_a3 hf)
set_option maxHeartbeats 4000000 in
theorem eX6_unwrap_7 (F d : Nat) : ∀ (n : Nat) (this : Nat) (x2 : Int32) (h : Hp) (hx : FXs h) {r : Hp}, fX6_unwrap_7 F d n this x2 h = some r → FXs r ∧ EF S_X6_unwrap h r := by
  intro n
  induction n with
  | zero => intro _ _ _ _ r hf; cases hf
  | succ n ih =>
    intro this x2 h hx r hf
    unfold fX6_unwrap_7 at hf
    replace hf := nnE hf
    obtain ⟨a2, e_a2, hf⟩ := hf
    have sa_a2 := hx 611 _ _ e_a2
    replace hf := ckE hf
    obtain ⟨c3, hf⟩ := hf
    by_cases c4 : (gA h a2 (Int32.toNatClampNeg (gI h 623 this))) = 10
    · replace hf := ifp c4 hf
      replace hf := nnE hf
      obtain ⟨a11, e_a11, hf⟩ := hf
      have sa_a11 := hx 626 _ _ e_a11
      replace hf := ckE hf
      obtain ⟨c12, hf⟩ := hf
      replace hf := bnE hf
      obtain ⟨h13, e_h13, hf⟩ := hf
      have hx_h13 := FX_sA hx e_h13
      have ef_h13 := EF_sA (EF.rf (S := S_X6_unwrap) _) e_h13 (f := 626) (by decide) sa_a11
      replace hf := bnE hf
      obtain ⟨v14, e_v14, hf⟩ := hf
      replace hf := nnE hf
      obtain ⟨a16, e_a16, hf⟩ := hf
      have sa_a16 := hx_h13 620 _ _ e_a16
      replace hf := ckE hf
      obtain ⟨c17, hf⟩ := hf
      replace hf := bnE hf
      obtain ⟨h18, e_h18, hf⟩ := hf
      have hx_h18 := FX_sI hx_h13 e_h18
      have ef_h18 := EF_sI ef_h13 e_h18 (by decide)
      exact EFj ef_h18 (ih _ _ _ hx_h18 hf)
    · replace hf := ifn c4 hf
      replace hf := nnE hf
      obtain ⟨a6, e_a6, hf⟩ := hf
      have sa_a6 := hx 611 _ _ e_a6
      replace hf := ckE hf
      obtain ⟨c7, hf⟩ := hf
      replace hf := bnE hf
      obtain ⟨v8, e_v8, hf⟩ := hf
      by_cases c9 : v8 = 9
      · replace hf := ifp c9 hf
        exact EFj (EF.rf (S := S_X6_unwrap) _) (eX6_unwrap_75 F d _ _ _ _ _ _ hx hf)
      · replace hf := ifn c9 hf
        exact EFj (EF.rf (S := S_X6_unwrap) _) (eX6_unwrap_75 F d _ _ _ _ _ _ hx hf)
set_option maxHeartbeats 4000000 in
theorem eX6_unwrap (F d : Nat) {this : Nat} {p0 : Int32} {h : Hp} (hx : FXs h) {r : Hp} (hf : fX6_unwrap F d this p0 h = some r) : FXs r ∧ EF S_X6_unwrap h r := by
  unfold fX6_unwrap at hf
  replace hf := bnE hf
  obtain ⟨h1, e_h1, hf⟩ := hf
  have hx_h1 := FX_sI hx e_h1
  have ef_h1 := EF_sI (EF.rf (S := S_X6_unwrap) _) e_h1 (by decide)
  exact EFj ef_h1 (eX6_unwrap_7 F d F _ _ _ hx_h1 hf)
abbrev S_X6_component : SS := ([603, 604, 606, 623, 624], [], [621, 622, 625, 626], [], [])
set_option maxHeartbeats 4000000 in
theorem eX6_component_161 (F d : Nat) (this : Nat) (s0 : Int32) (h : Hp) (hx : FXs h) {r : Hp} (hf : fX6_component_161 F d this s0 h = some r) : FXs r ∧ EF S_X6_component h r := by
  unfold fX6_component_161 at hf
  by_cases c1 : s0 = 0
  · replace hf := ifp c1 hf
    replace hf := caE hf
    obtain ⟨v3, h2, e_h2, hf⟩ := hf
    have q_h2 := EFc (EF.rf (S := S_X6_component) _) (eX6_stop F d hx e_h2) (by decide)
    have hx_h2 := q_h2.1
    have ef_h2 := q_h2.2
    cases hf
    exact ⟨hx_h2, ef_h2⟩
  · replace hf := ifn c1 hf
    cases hf
    exact ⟨hx, (EF.rf (S := S_X6_component) _)⟩
set_option maxHeartbeats 4000000 in
theorem eX6_component_160 (F d : Nat) (this : Nat) (h : Hp) (hx : FXs h) {r : Hp} (hf : fX6_component_160 F d this h = some r) : FXs r ∧ EF S_X6_component h r := by
  unfold fX6_component_160 at hf
  exact EFj (EF.rf (S := S_X6_component) _) (eX6_component_161 F d _ _ _ hx hf)
set_option maxHeartbeats 4000000 in
theorem eX6_component_156 (F d : Nat) (this : Nat) (h : Hp) (hx : FXs h) {r : Hp} (hf : fX6_component_156 F d this h = some r) : FXs r ∧ EF S_X6_component h r := by
  unfold fX6_component_156 at hf
  exact EFj (EF.rf (S := S_X6_component) _) (eX6_component_161 F d _ _ _ hx hf)
set_option maxHeartbeats 4000000 in
theorem eX6_component (F d : Nat) {this : Nat} {p0 : Int32} {p1 : Int32} {h : Hp} (hx : FXs h) {r : Hp} (hf : fX6_component F d this p0 p1 h = some r) : FXs r ∧ EF S_X6_component h r := by
  unfold fX6_component at hf
  replace hf := caE hf
  obtain ⟨v2, h1, e_h1, hf⟩ := hf
  have q_h1 := EFc (EF.rf (S := S_X6_component) _) (eX6_look F d hx e_h1) (by decide)
  have hx_h1 := q_h1.1
  have ef_h1 := q_h1.2
  by_cases c3 : v2 = 63
  · replace hf := ifp c3 hf
    replace hf := nnE hf
    obtain ⟨a45, e_a45, hf⟩ := hf
    have sa_a45 := hx_h1 621 _ _ e_a45
    replace hf := ckE hf
    obtain ⟨c46, hf⟩ := hf
    replace hf := bnE hf
    obtain ⟨h47, e_h47, hf⟩ := hf
    have hx_h47 := FX_sA hx_h1 e_h47
    have ef_h47 := EF_sA ef_h1 e_h47 (f := 621) (by decide) sa_a45
    replace hf := bnE hf
    obtain ⟨h48, e_h48, hf⟩ := hf
    have hx_h48 := FX_sI hx_h47 e_h48
    have ef_h48 := EF_sI ef_h47 e_h48 (by decide)
    cases hf
    exact ⟨hx_h48, ef_h48⟩
  · replace hf := ifn c3 hf
    replace hf := caE hf
    obtain ⟨v5, h4, e_h4, hf⟩ := hf
    have q_h4 := EFc ef_h1 (eX6_look F d hx_h1 e_h4) (by decide)
    have hx_h4 := q_h4.1
    have ef_h4 := q_h4.2
    by_cases c6 : v5 = 61
    · replace hf := ifp c6 hf
      replace hf := nnE hf
      obtain ⟨a8, e_a8, hf⟩ := hf
      have sa_a8 := hx_h4 621 _ _ e_a8
      replace hf := ckE hf
      obtain ⟨c9, hf⟩ := hf
      replace hf := bnE hf
      obtain ⟨h10, e_h10, hf⟩ := hf
      have hx_h10 := FX_sA hx_h4 e_h10
      have ef_h10 := EF_sA ef_h4 e_h10 (f := 621) (by decide) sa_a8
      replace hf := bnE hf
      obtain ⟨h11, e_h11, hf⟩ := hf
      have hx_h11 := FX_sI hx_h10 e_h11
      have ef_h11 := EF_sI ef_h10 e_h11 (by decide)
      replace hf := caE hf
      obtain ⟨v13, h12, e_h12, hf⟩ := hf
      have q_h12 := EFc ef_h11 (eX6_numeral F d hx_h11 e_h12) (by decide)
      have hx_h12 := q_h12.1
      have ef_h12 := q_h12.2
      by_cases c14 : v13 = 0
      · replace hf := ifp c14 hf
        cases hf
        exact ⟨hx_h12, ef_h12⟩
      · replace hf := ifn c14 hf
        replace hf := nnE hf
        obtain ⟨a16, e_a16, hf⟩ := hf
        have sa_a16 := hx_h12 622 _ _ e_a16
        replace hf := ckE hf
        obtain ⟨c17, hf⟩ := hf
        replace hf := bnE hf
        obtain ⟨h18, e_h18, hf⟩ := hf
        have hx_h18 := FX_sA hx_h12 e_h18
        have ef_h18 := EF_sA ef_h12 e_h18 (f := 622) (by decide) sa_a16
        replace hf := cvE hf
        obtain ⟨h19, e_h19, hf⟩ := hf
        have q_h19 := EFc ef_h18 (eX6_unwrap F d hx_h18 e_h19) (by decide)
        have hx_h19 := q_h19.1
        have ef_h19 := q_h19.2
        replace hf := nnE hf
        obtain ⟨a22, e_a22, hf⟩ := hf
        have sa_a22 := hx_h19 611 _ _ e_a22
        replace hf := ckE hf
        obtain ⟨c23, hf⟩ := hf
        by_cases c24 : (gA h19 a22 (Int32.toNatClampNeg (gI h19 623 this))) = 1
        · replace hf := ifp c24 hf
          replace hf := caE hf
          obtain ⟨v43, h42, e_h42, hf⟩ := hf
          have q_h42 := EFc ef_h19 (eX6_in F d hx_h19 e_h42) (by decide)
          have hx_h42 := q_h42.1
          have ef_h42 := q_h42.2
          exact EFj ef_h42 (eX6_component_161 F d _ _ _ hx_h42 hf)
        · replace hf := ifn c24 hf
          replace hf := nnE hf
          obtain ⟨a26, e_a26, hf⟩ := hf
          have sa_a26 := hx_h19 611 _ _ e_a26
          replace hf := ckE hf
          obtain ⟨c27, hf⟩ := hf
          by_cases c28 : (gA h19 a26 (Int32.toNatClampNeg (gI h19 623 this))) = 2
          · replace hf := ifp c28 hf
            replace hf := nnE hf
            obtain ⟨a30, e_a30, hf⟩ := hf
            have sa_a30 := hx_h19 618 _ _ e_a30
            replace hf := ckE hf
            obtain ⟨c31, hf⟩ := hf
            by_cases c32 : (gA h19 a30 (Int32.toNatClampNeg (gI h19 623 this))) = 0
            · replace hf := ifp c32 hf
              exact EFj ef_h19 (eX6_component_156 F d _ _ hx_h19 hf)
            · replace hf := ifn c32 hf
              replace hf := nnE hf
              obtain ⟨a34, e_a34, hf⟩ := hf
              have sa_a34 := hx_h19 612 _ _ e_a34
              replace hf := ckE hf
              obtain ⟨c35, hf⟩ := hf
              replace hf := nnE hf
              obtain ⟨a37, e_a37, hf⟩ := hf
              have sa_a37 := hx_h19 613 _ _ e_a37
              replace hf := ckE hf
              obtain ⟨c38, hf⟩ := hf
              replace hf := caE hf
              obtain ⟨v40, h39, e_h39, hf⟩ := hf
              have q_h39 := EFc ef_h19 (eX6_in F d hx_h19 e_h39) (by decide)
              have hx_h39 := q_h39.1
              have ef_h39 := q_h39.2
              by_cases c41 : v40 = 0
              · replace hf := ifp c41 hf
                exact EFj ef_h39 (eX6_component_160 F d _ _ hx_h39 hf)
              · replace hf := ifn c41 hf
                exact EFj ef_h39 (eX6_component_156 F d _ _ hx_h39 hf)
          · replace hf := ifn c28 hf
            exact EFj ef_h19 (eX6_component_160 F d _ _ hx_h19 hf)
    · replace hf := ifn c6 hf
      cases hf
      exact ⟨hx_h4, ef_h4⟩
abbrev S_X6_clashes : SS := ([], [], [616], [], [])
set_option maxHeartbeats 4000000 in
theorem eX6_clashes_92 (F d : Nat) (k_10 : Nat → Int32 → Int32 → Int32 → Int32 → Hp → Option (Int32 × Hp)) (hk_10 : ∀ (this : Nat) (x1 : Int32) (x2 : Int32) (x3 : Int32) (x4 : Int32) (h : Hp) (hx : FXs h) {r : Int32 × Hp}, k_10 this x1 x2 x3 x4 h = some r → FXs r.2 ∧ EF S_X6_clashes h r.2) (this : Nat) (x1 : Int32) (x2 : Int32) (x4 : Int32) (s0 : Int32) (h : Hp) (hx : FXs h) {r : Int32 × Hp} (hf : fX6_clashes_92 F d k_10 this x1 x2 x4 s0 h = some r) : FXs r.2 ∧ EF S_X6_clashes h r.2 := by
  unfold fX6_clashes_92 at hf
  replace hf := bnE hf
  obtain ⟨v1, e_v1, hf⟩ := hf
  exact EFj (EF.rf (S := S_X6_clashes) _) (hk_10 _ _ _ _ _ _ hx hf)
set_option maxHeartbeats 4000000 in
theorem eX6_clashes_78 (F d : Nat) (k_10 : Nat → Int32 → Int32 → Int32 → Int32 → Hp → Option (Int32 × Hp)) (hk_10 : ∀ (this : Nat) (x1 : Int32) (x2 : Int32) (x3 : Int32) (x4 : Int32) (h : Hp) (hx : FXs h) {r : Int32 × Hp}, k_10 this x1 x2 x3 x4 h = some r → FXs r.2 ∧ EF S_X6_clashes h r.2) (this : Nat) (x1 : Int32) (x2 : Int32) (x3 : Int32) (x4 : Int32) (h : Hp) (hx : FXs h) {r : Int32 × Hp} (hf : fX6_clashes_78 F d k_10 this x1 x2 x3 x4 h = some r) : FXs r.2 ∧ EF S_X6_clashes h r.2 := by
  unfold fX6_clashes_78 at hf
  replace hf := nnE hf
  obtain ⟨a2, e_a2, hf⟩ := hf
  have sa_a2 := hx 616 _ _ e_a2
  replace hf := nnE hf
  obtain ⟨a4, e_a4, hf⟩ := hf
  have sa_a4 := hx 620 _ _ e_a4
  replace hf := ckE hf
  obtain ⟨c5, hf⟩ := hf
  replace hf := ckE hf
  obtain ⟨c6, hf⟩ := hf
  exact EFj (EF.rf (S := S_X6_clashes) _) (eX6_clashes_92 F d k_10 hk_10 _ _ _ _ _ _ hx hf)
set_option maxHeartbeats 4000000 in
theorem eX6_clashes_52 (F d : Nat) (k_10 : Nat → Int32 → Int32 → Int32 → Int32 → Hp → Option (Int32 × Hp)) (hk_10 : ∀ (this : Nat) (x1 : Int32) (x2 : Int32) (x3 : Int32) (x4 : Int32) (h : Hp) (hx : FXs h) {r : Int32 × Hp}, k_10 this x1 x2 x3 x4 h = some r → FXs r.2 ∧ EF S_X6_clashes h r.2) (this : Nat) (x1 : Int32) (x3 : Int32) (x4 : Int32) (s0 : Int32) (h : Hp) (hx : FXs h) {r : Int32 × Hp} (hf : fX6_clashes_52 F d k_10 this x1 x3 x4 s0 h = some r) : FXs r.2 ∧ EF S_X6_clashes h r.2 := by
  unfold fX6_clashes_52 at hf
  replace hf := nnE hf
  obtain ⟨a2, e_a2, hf⟩ := hf
  have sa_a2 := hx 611 _ _ e_a2
  replace hf := ckE hf
  obtain ⟨c3, hf⟩ := hf
  by_cases c4 : (gA h a2 (Int32.toNatClampNeg x1)) = 6
  · replace hf := ifp c4 hf
    replace hf := nnE hf
    obtain ⟨a6, e_a6, hf⟩ := hf
    have sa_a6 := hx 621 _ _ e_a6
    replace hf := ckE hf
    obtain ⟨c7, hf⟩ := hf
    by_cases c8 : (gA h a6 (Int32.toNatClampNeg x4)) = 0
    · replace hf := ifp c8 hf
      exact EFj (EF.rf (S := S_X6_clashes) _) (eX6_clashes_92 F d k_10 hk_10 _ _ _ _ _ _ hx hf)
    · replace hf := ifn c8 hf
      exact EFj (EF.rf (S := S_X6_clashes) _) (eX6_clashes_78 F d k_10 hk_10 _ _ _ _ _ _ hx hf)
  · replace hf := ifn c4 hf
    exact EFj (EF.rf (S := S_X6_clashes) _) (eX6_clashes_78 F d k_10 hk_10 _ _ _ _ _ _ hx hf)
set_option maxHeartbeats 4000000 in
theorem eX6_clashes_47 (F d : Nat) (k_10 : Nat → Int32 → Int32 → Int32 → Int32 → Hp → Option (Int32 × Hp)) (hk_10 : ∀ (this : Nat) (x1 : Int32) (x2 : Int32) (x3 : Int32) (x4 : Int32) (h : Hp) (hx : FXs h) {r : Int32 × Hp}, k_10 this x1 x2 x3 x4 h = some r → FXs r.2 ∧ EF S_X6_clashes h r.2) (this : Nat) (x1 : Int32) (x3 : Int32) (x4 : Int32) (h : Hp) (hx : FXs h) {r : Int32 × Hp} (hf : fX6_clashes_47 F d k_10 this x1 x3 x4 h = some r) : FXs r.2 ∧ EF S_X6_clashes h r.2 := by
  unfold fX6_clashes_47 at hf
  exact EFj (EF.rf (S := S_X6_clashes) _) (eX6_clashes_52 F d k_10 hk_10 _ _ _ _ _ _ hx hf)
set_option maxHeartbeats 4000000 in
theorem eX6_clashes_10 (F d : Nat) : ∀ (n : Nat) (this : Nat) (x1 : Int32) (x2 : Int32) (x3 : Int32) (x4 : Int32) (h : Hp) (hx : FXs h) {r : Int32 × Hp}, fX6_clashes_10 F d n this x1 x2 x3 x4 h = some r → FXs r.2 ∧ EF S_X6_clashes h r.2 := by
  intro n
  induction n with
  | zero => intro _ _ _ _ _ _ _ r hf; cases hf
  | succ n ih =>
    intro this x1 x2 x3 x4 h hx r hf
    unfold fX6_clashes_10 at hf
    replace hf := nnE hf
    obtain ⟨a2, e_a2, hf⟩ := hf
    have sa_a2 := hx 615 _ _ e_a2
    replace hf := ckE hf
    obtain ⟨c3, hf⟩ := hf
    by_cases c4 : ((6 * x1) + (gA h a2 (Int32.toNatClampNeg x1))) ≤ x4
    · replace hf := ifp c4 hf
      replace hf := nnE hf
      obtain ⟨a6, e_a6, hf⟩ := hf
      have sa_a6 := hx 611 _ _ e_a6
      replace hf := ckE hf
      obtain ⟨c7, hf⟩ := hf
      by_cases c8 : (gA h a6 (Int32.toNatClampNeg x1)) = 9
      · replace hf := ifp c8 hf
        replace hf := nnE hf
        obtain ⟨a11, e_a11, hf⟩ := hf
        have sa_a11 := hx 616 _ _ e_a11
        replace hf := ckE hf
        obtain ⟨c12, hf⟩ := hf
        replace hf := bnE hf
        obtain ⟨h13, e_h13, hf⟩ := hf
        have hx_h13 := FX_sA hx e_h13
        have ef_h13 := EF_sA (EF.rf (S := S_X6_clashes) _) e_h13 (f := 616) (by decide) sa_a11
        replace hf := ckE hf
        obtain ⟨c14, hf⟩ := hf
        cases hf
        exact ⟨hx_h13, ef_h13⟩
      · replace hf := ifn c8 hf
        replace hf := ckE hf
        obtain ⟨c9, hf⟩ := hf
        cases hf
        exact ⟨hx, (EF.rf (S := S_X6_clashes) _)⟩
    · replace hf := ifn c4 hf
      by_cases c15 : x2 = 0
      · replace hf := ifp c15 hf
        replace hf := nnE hf
        obtain ⟨a17, e_a17, hf⟩ := hf
        have sa_a17 := hx 616 _ _ e_a17
        replace hf := nnE hf
        obtain ⟨a19, e_a19, hf⟩ := hf
        have sa_a19 := hx 620 _ _ e_a19
        replace hf := ckE hf
        obtain ⟨c20, hf⟩ := hf
        replace hf := ckE hf
        obtain ⟨c21, hf⟩ := hf
        by_cases c22 : (x3 &&& (gA h a17 (Int32.toNatClampNeg (gA h a19 (Int32.toNatClampNeg x4))))) = 0
        · replace hf := ifp c22 hf
          exact EFj (EF.rf (S := S_X6_clashes) _) (eX6_clashes_52 F d (fX6_clashes_10 F d n) ih _ _ _ _ _ _ hx hf)
        · replace hf := ifn c22 hf
          exact EFj (EF.rf (S := S_X6_clashes) _) (eX6_clashes_47 F d (fX6_clashes_10 F d n) ih _ _ _ _ _ hx hf)
      · replace hf := ifn c15 hf
        exact EFj (EF.rf (S := S_X6_clashes) _) (eX6_clashes_47 F d (fX6_clashes_10 F d n) ih _ _ _ _ _ hx hf)
set_option maxHeartbeats 4000000 in
theorem eX6_clashes (F d : Nat) {this : Nat} {p0 : Int32} {h : Hp} (hx : FXs h) {r : Int32 × Hp} (hf : fX6_clashes F d this p0 h = some r) : FXs r.2 ∧ EF S_X6_clashes h r.2 := by
  unfold fX6_clashes at hf
  replace hf := bnE hf
  obtain ⟨v1, e_v1, hf⟩ := hf
  exact EFj (EF.rf (S := S_X6_clashes) _) (eX6_clashes_10 F d F _ _ _ _ _ _ hx hf)
abbrev S_X6_end : SS := ([603, 604, 605, 606, 623, 624], [], [615, 616, 617, 620, 621, 622, 625, 626], [], [])
set_option maxHeartbeats 4000000 in
theorem eX6_end_242 (F d : Nat) (this : Nat) (x2 : Int32) (h : Hp) (hx : FXs h) {r : Int32 × Hp} (hf : fX6_end_242 F d this x2 h = some r) : FXs r.2 ∧ EF S_X6_end h r.2 := by
  unfold fX6_end_242 at hf
  replace hf := bnE hf
  obtain ⟨h1, e_h1, hf⟩ := hf
  have hx_h1 := FX_sI hx e_h1
  have ef_h1 := EF_sI (EF.rf (S := S_X6_end) _) e_h1 (by decide)
  cases hf
  exact ⟨hx_h1, ef_h1⟩
set_option maxHeartbeats 4000000 in
theorem eX6_end_193 (F d : Nat) (this : Nat) (x2 : Int32) (h : Hp) (hx : FXs h) {r : Int32 × Hp} (hf : fX6_end_193 F d this x2 h = some r) : FXs r.2 ∧ EF S_X6_end h r.2 := by
  unfold fX6_end_193 at hf
  replace hf := bnE hf
  obtain ⟨h1, e_h1, hf⟩ := hf
  have hx_h1 := FX_sI hx e_h1
  have ef_h1 := EF_sI (EF.rf (S := S_X6_end) _) e_h1 (by decide)
  replace hf := nnE hf
  obtain ⟨a3, e_a3, hf⟩ := hf
  have sa_a3 := hx_h1 607 _ _ e_a3
  replace hf := ckE hf
  obtain ⟨c4, hf⟩ := hf
  by_cases c5 : (gA h1 a3 (Int32.toNatClampNeg ((gI h1 603 this) - 1))) = 44
  · replace hf := ifp c5 hf
    cases hf
    exact ⟨hx_h1, ef_h1⟩
  · replace hf := ifn c5 hf
    replace hf := caE hf
    obtain ⟨v7, h6, e_h6, hf⟩ := hf
    have q_h6 := EFc ef_h1 (eX6_clashes F d hx_h1 e_h6) (by decide)
    have hx_h6 := q_h6.1
    have ef_h6 := q_h6.2
    by_cases c8 : v7 = 0
    · replace hf := ifp c8 hf
      exact EFj ef_h6 (eX6_end_242 F d _ _ _ hx_h6 hf)
    · replace hf := ifn c8 hf
      replace hf := caE hf
      obtain ⟨v10, h9, e_h9, hf⟩ := hf
      have q_h9 := EFc ef_h6 (eX6_stop F d hx_h6 e_h9) (by decide)
      have hx_h9 := q_h9.1
      have ef_h9 := q_h9.2
      cases hf
      exact ⟨hx_h9, ef_h9⟩
set_option maxHeartbeats 4000000 in
theorem eX6_end_165 (F d : Nat) (this : Nat) (x2 : Int32) (h : Hp) (hx : FXs h) {r : Int32 × Hp} (hf : fX6_end_165 F d this x2 h = some r) : FXs r.2 ∧ EF S_X6_end h r.2 := by
  unfold fX6_end_165 at hf
  replace hf := caE hf
  obtain ⟨v2, h1, e_h1, hf⟩ := hf
  have q_h1 := EFc (EF.rf (S := S_X6_end) _) (eX6_look F d hx e_h1) (by decide)
  have hx_h1 := q_h1.1
  have ef_h1 := q_h1.2
  by_cases c3 : v2 = 44
  · replace hf := ifp c3 hf
    exact EFj ef_h1 (eX6_end_193 F d _ _ _ hx_h1 hf)
  · replace hf := ifn c3 hf
    replace hf := caE hf
    obtain ⟨v5, h4, e_h4, hf⟩ := hf
    have q_h4 := EFc ef_h1 (eX6_look F d hx_h1 e_h4) (by decide)
    have hx_h4 := q_h4.1
    have ef_h4 := q_h4.2
    by_cases c6 : v5 = 125
    · replace hf := ifp c6 hf
      exact EFj ef_h4 (eX6_end_193 F d _ _ _ hx_h4 hf)
    · replace hf := ifn c6 hf
      replace hf := caE hf
      obtain ⟨v8, h7, e_h7, hf⟩ := hf
      have q_h7 := EFc ef_h4 (eX6_stop F d hx_h4 e_h7) (by decide)
      have hx_h7 := q_h7.1
      have ef_h7 := q_h7.2
      cases hf
      exact ⟨hx_h7, ef_h7⟩
set_option maxHeartbeats 4000000 in
theorem eX6_end_134 (F d : Nat) (this : Nat) (x2 : Int32) (h : Hp) (hx : FXs h) {r : Int32 × Hp} (hf : fX6_end_134 F d this x2 h = some r) : FXs r.2 ∧ EF S_X6_end h r.2 := by
  unfold fX6_end_134 at hf
  replace hf := caE hf
  obtain ⟨v2, h1, e_h1, hf⟩ := hf
  have q_h1 := EFc (EF.rf (S := S_X6_end) _) (eX6_look F d hx e_h1) (by decide)
  have hx_h1 := q_h1.1
  have ef_h1 := q_h1.2
  by_cases c3 : v2 = 44
  · replace hf := ifp c3 hf
    replace hf := nnE hf
    obtain ⟨a5, e_a5, hf⟩ := hf
    have sa_a5 := hx_h1 615 _ _ e_a5
    replace hf := ckE hf
    obtain ⟨c6, hf⟩ := hf
    by_cases c7 : (gA h1 a5 (Int32.toNatClampNeg x2)) = 6
    · replace hf := ifp c7 hf
      replace hf := caE hf
      obtain ⟨v9, h8, e_h8, hf⟩ := hf
      have q_h8 := EFc ef_h1 (eX6_stop F d hx_h1 e_h8) (by decide)
      have hx_h8 := q_h8.1
      have ef_h8 := q_h8.2
      cases hf
      exact ⟨hx_h8, ef_h8⟩
    · replace hf := ifn c7 hf
      exact EFj ef_h1 (eX6_end_165 F d _ _ _ hx_h1 hf)
  · replace hf := ifn c3 hf
    exact EFj ef_h1 (eX6_end_165 F d _ _ _ hx_h1 hf)
set_option maxHeartbeats 4000000 in
theorem eX6_end_103 (F d : Nat) (this : Nat) (x2 : Int32) (h : Hp) (hx : FXs h) {r : Int32 × Hp} (hf : fX6_end_103 F d this x2 h = some r) : FXs r.2 ∧ EF S_X6_end h r.2 := by
  unfold fX6_end_103 at hf
  by_cases c1 : (gI h 604 this) ≤ 0
  · replace hf := ifp c1 hf
    replace hf := nnE hf
    obtain ⟨a3, e_a3, hf⟩ := hf
    have sa_a3 := hx 611 _ _ e_a3
    replace hf := ckE hf
    obtain ⟨c4, hf⟩ := hf
    by_cases c5 : (gA h a3 (Int32.toNatClampNeg x2)) = 6
    · replace hf := ifp c5 hf
      exact EFj (EF.rf (S := S_X6_end) _) (eX6_end_134 F d _ _ _ hx hf)
    · replace hf := ifn c5 hf
      replace hf := nnE hf
      obtain ⟨a7, e_a7, hf⟩ := hf
      have sa_a7 := hx 611 _ _ e_a7
      replace hf := ckE hf
      obtain ⟨c8, hf⟩ := hf
      by_cases c9 : (gA h a7 (Int32.toNatClampNeg x2)) = 9
      · replace hf := ifp c9 hf
        exact EFj (EF.rf (S := S_X6_end) _) (eX6_end_134 F d _ _ _ hx hf)
      · replace hf := ifn c9 hf
        exact EFj (EF.rf (S := S_X6_end) _) (eX6_end_242 F d _ _ _ hx hf)
  · replace hf := ifn c1 hf
    cases hf
    exact ⟨hx, (EF.rf (S := S_X6_end) _)⟩
set_option maxHeartbeats 4000000 in
theorem eX6_end_85 (F d : Nat) (this : Nat) (x1 : Int32) (x2 : Int32) (x3 : Int32) (s0 : Nat) (s1 : Int32) (s2 : Int32) (h : Hp) (hx : FXs h) (sa_s0 : saF 617 s0 = true) {r : Int32 × Hp} (hf : fX6_end_85 F d this x1 x2 x3 s0 s1 s2 h = some r) : FXs r.2 ∧ EF S_X6_end h r.2 := by
  unfold fX6_end_85 at hf
  replace hf := ckE hf
  obtain ⟨c1, hf⟩ := hf
  replace hf := bnE hf
  obtain ⟨h2, e_h2, hf⟩ := hf
  have hx_h2 := FX_sA hx e_h2
  have ef_h2 := EF_sA (EF.rf (S := S_X6_end) _) e_h2 (f := 617) (by decide) sa_s0
  replace hf := nnE hf
  obtain ⟨a4, e_a4, hf⟩ := hf
  have sa_a4 := hx_h2 611 _ _ e_a4
  replace hf := ckE hf
  obtain ⟨c5, hf⟩ := hf
  by_cases c6 : (gA h2 a4 (Int32.toNatClampNeg x2)) = 6
  · replace hf := ifp c6 hf
    replace hf := cvE hf
    obtain ⟨h7, e_h7, hf⟩ := hf
    have q_h7 := EFc ef_h2 (eX6_component F d hx_h2 e_h7) (by decide)
    have hx_h7 := q_h7.1
    have ef_h7 := q_h7.2
    exact EFj ef_h7 (eX6_end_103 F d _ _ _ hx_h7 hf)
  · replace hf := ifn c6 hf
    exact EFj ef_h2 (eX6_end_103 F d _ _ _ hx_h2 hf)
set_option maxHeartbeats 4000000 in
theorem eX6_end (F d : Nat) {this : Nat} {p0 : Int32} {h : Hp} (hx : FXs h) {r : Int32 × Hp} (hf : fX6_end F d this p0 h = some r) : FXs r.2 ∧ EF S_X6_end h r.2 := by
  unfold fX6_end at hf
  replace hf := nnE hf
  obtain ⟨a2, e_a2, hf⟩ := hf
  have sa_a2 := hx 608 _ _ e_a2
  replace hf := ckE hf
  obtain ⟨c3, hf⟩ := hf
  replace hf := bnE hf
  obtain ⟨v4, e_v4, hf⟩ := hf
  replace hf := nnE hf
  obtain ⟨a6, e_a6, hf⟩ := hf
  have sa_a6 := hx 615 _ _ e_a6
  replace hf := ckE hf
  obtain ⟨c7, hf⟩ := hf
  replace hf := bnE hf
  obtain ⟨v8, e_v8, hf⟩ := hf
  replace hf := nnE hf
  obtain ⟨a10, e_a10, hf⟩ := hf
  have sa_a10 := hx 620 _ _ e_a10
  replace hf := ckE hf
  obtain ⟨c11, hf⟩ := hf
  replace hf := bnE hf
  obtain ⟨h12, e_h12, hf⟩ := hf
  have hx_h12 := FX_sA hx e_h12
  have ef_h12 := EF_sA (EF.rf (S := S_X6_end) _) e_h12 (f := 620) (by decide) sa_a10
  replace hf := nnE hf
  obtain ⟨a14, e_a14, hf⟩ := hf
  have sa_a14 := hx_h12 621 _ _ e_a14
  replace hf := ckE hf
  obtain ⟨c15, hf⟩ := hf
  replace hf := bnE hf
  obtain ⟨h16, e_h16, hf⟩ := hf
  have hx_h16 := FX_sA hx_h12 e_h16
  have ef_h16 := EF_sA ef_h12 e_h16 (f := 621) (by decide) sa_a14
  replace hf := nnE hf
  obtain ⟨a18, e_a18, hf⟩ := hf
  have sa_a18 := hx_h16 615 _ _ e_a18
  replace hf := ckE hf
  obtain ⟨c19, hf⟩ := hf
  replace hf := ckE hf
  obtain ⟨c20, hf⟩ := hf
  replace hf := bnE hf
  obtain ⟨h21, e_h21, hf⟩ := hf
  have hx_h21 := FX_sA hx_h16 e_h21
  have ef_h21 := EF_sA ef_h16 e_h21 (f := 615) (by decide) sa_a18
  replace hf := nnE hf
  obtain ⟨a23, e_a23, hf⟩ := hf
  have sa_a23 := hx_h21 617 _ _ e_a23
  replace hf := nnE hf
  obtain ⟨a25, e_a25, hf⟩ := hf
  have sa_a25 := hx_h21 617 _ _ e_a25
  replace hf := ckE hf
  obtain ⟨c26, hf⟩ := hf
  replace hf := nnE hf
  obtain ⟨a28, e_a28, hf⟩ := hf
  have sa_a28 := hx_h21 617 _ _ e_a28
  replace hf := ckE hf
  obtain ⟨c29, hf⟩ := hf
  by_cases c30 : (gA h21 a25 (Int32.toNatClampNeg p0)) < (gA h21 a28 (Int32.toNatClampNeg v4))
  · replace hf := ifp c30 hf
    replace hf := nnE hf
    obtain ⟨a32, e_a32, hf⟩ := hf
    have sa_a32 := hx_h21 617 _ _ e_a32
    replace hf := ckE hf
    obtain ⟨c33, hf⟩ := hf
    exact EFj ef_h21 (eX6_end_85 F d _ _ _ _ _ _ _ _ hx_h21 sa_a23 hf)
  · replace hf := ifn c30 hf
    replace hf := nnE hf
    obtain ⟨a35, e_a35, hf⟩ := hf
    have sa_a35 := hx_h21 617 _ _ e_a35
    replace hf := ckE hf
    obtain ⟨c36, hf⟩ := hf
    exact EFj ef_h21 (eX6_end_85 F d _ _ _ _ _ _ _ _ hx_h21 sa_a23 hf)
abbrev S_X6_whole : SS := ([603, 604, 605, 606, 610, 623, 624], [], [608, 611, 612, 613, 614, 615, 616, 617, 618, 619, 620, 621, 622, 625, 626], [], [])
set_option maxHeartbeats 4000000 in
theorem eX6_whole_50 (F d : Nat) (k_5 : Nat → Hp → Option (Int32 × Hp)) (hk_5 : ∀ (this : Nat) (h : Hp) (hx : FXs h) {r : Int32 × Hp}, k_5 this h = some r → FXs r.2 ∧ EF S_X6_whole h r.2) (this : Nat) (h : Hp) (hx : FXs h) {r : Int32 × Hp} (hf : fX6_whole_50 F d k_5 this h = some r) : FXs r.2 ∧ EF S_X6_whole h r.2 := by
  unfold fX6_whole_50 at hf
  exact EFj (EF.rf (S := S_X6_whole) _) (hk_5 _ _ hx hf)
set_option maxHeartbeats 4000000 in
theorem eX6_whole_37 (F d : Nat) (k_5 : Nat → Hp → Option (Int32 × Hp)) (hk_5 : ∀ (this : Nat) (h : Hp) (hx : FXs h) {r : Int32 × Hp}, k_5 this h = some r → FXs r.2 ∧ EF S_X6_whole h r.2) (this : Nat) (x1 : Int32) (h : Hp) (hx : FXs h) {r : Int32 × Hp} (hf : fX6_whole_37 F d k_5 this x1 h = some r) : FXs r.2 ∧ EF S_X6_whole h r.2 := by
  unfold fX6_whole_37 at hf
  by_cases c1 : x1 < 0
  · replace hf := ifp c1 hf
    exact EFj (EF.rf (S := S_X6_whole) _) (eX6_whole_50 F d k_5 hk_5 _ _ hx hf)
  · replace hf := ifn c1 hf
    by_cases c2 : (gI h 604 this) = 0
    · replace hf := ifp c2 hf
      cases hf
      exact ⟨hx, (EF.rf (S := S_X6_whole) _)⟩
    · replace hf := ifn c2 hf
      exact EFj (EF.rf (S := S_X6_whole) _) (eX6_whole_50 F d k_5 hk_5 _ _ hx hf)
set_option maxHeartbeats 4000000 in
theorem eX6_whole_17 (F d : Nat) (k_5 : Nat → Hp → Option (Int32 × Hp)) (hk_5 : ∀ (this : Nat) (h : Hp) (hx : FXs h) {r : Int32 × Hp}, k_5 this h = some r → FXs r.2 ∧ EF S_X6_whole h r.2) : ∀ (n : Nat) (this : Nat) (x1 : Int32) (h : Hp) (hx : FXs h) {r : Int32 × Hp}, fX6_whole_17 F d k_5 n this x1 h = some r → FXs r.2 ∧ EF S_X6_whole h r.2 := by
  intro n
  induction n with
  | zero => intro _ _ _ _ r hf; cases hf
  | succ n ih =>
    intro this x1 h hx r hf
    unfold fX6_whole_17 at hf
    by_cases c1 : x1 < 0
    · replace hf := ifp c1 hf
      exact EFj (EF.rf (S := S_X6_whole) _) (eX6_whole_37 F d k_5 hk_5 _ _ _ hx hf)
    · replace hf := ifn c1 hf
      by_cases c2 : (gI h 605 this) ≤ 0
      · replace hf := ifp c2 hf
        exact EFj (EF.rf (S := S_X6_whole) _) (eX6_whole_37 F d k_5 hk_5 _ _ _ hx hf)
      · replace hf := ifn c2 hf
        replace hf := caE hf
        obtain ⟨v4, h3, e_h3, hf⟩ := hf
        have q_h3 := EFc (EF.rf (S := S_X6_whole) _) (eX6_end F d hx e_h3) (by decide)
        have hx_h3 := q_h3.1
        have ef_h3 := q_h3.2
        exact EFj ef_h3 (ih _ _ _ hx_h3 hf)
set_option maxHeartbeats 4000000 in
theorem eX6_whole_5 (F d : Nat) : ∀ (n : Nat) (this : Nat) (h : Hp) (hx : FXs h) {r : Int32 × Hp}, fX6_whole_5 F d n this h = some r → FXs r.2 ∧ EF S_X6_whole h r.2 := by
  intro n
  induction n with
  | zero => intro _ _ _ r hf; cases hf
  | succ n ih =>
    intro this h hx r hf
    unfold fX6_whole_5 at hf
    by_cases c1 : (gI h 604 this) = 0
    · replace hf := ifp c1 hf
      replace hf := caE hf
      obtain ⟨v3, h2, e_h2, hf⟩ := hf
      have q_h2 := EFc (EF.rf (S := S_X6_whole) _) (eX6_begin F d hx e_h2) (by decide)
      have hx_h2 := q_h2.1
      have ef_h2 := q_h2.2
      exact EFj ef_h2 (eX6_whole_17 F d (fX6_whole_5 F d n) ih F _ _ _ hx_h2 hf)
    · replace hf := ifn c1 hf
      cases hf
      exact ⟨hx, (EF.rf (S := S_X6_whole) _)⟩
set_option maxHeartbeats 4000000 in
theorem eX6_whole (F d : Nat) {this : Nat} {h : Hp} (hx : FXs h) {r : Int32 × Hp} (hf : fX6_whole F d this h = some r) : FXs r.2 ∧ EF S_X6_whole h r.2 := by
  unfold fX6_whole at hf
  replace hf := bnE hf
  obtain ⟨h1, e_h1, hf⟩ := hf
  have hx_h1 := FX_sI hx e_h1
  have ef_h1 := EF_sI (EF.rf (S := S_X6_whole) _) e_h1 (by decide)
  exact EFj ef_h1 (eX6_whole_5 F d F _ _ hx_h1 hf)
abbrev S_X6_definition : SS := ([603, 604, 605, 606, 610, 623, 624], [], [608, 609, 611, 612, 613, 614, 615, 616, 617, 618, 619, 620, 621, 622, 625, 626], [], [])
set_option maxHeartbeats 4000000 in
theorem eX6_definition_85 (F d : Nat) (this : Nat) (x1 : Int32) (s0 : Int32) (h : Hp) (hx : FXs h) {r : Hp} (hf : fX6_definition_85 F d this x1 s0 h = some r) : FXs r ∧ EF S_X6_definition h r := by
  unfold fX6_definition_85 at hf
  by_cases c1 : s0 < 0
  · replace hf := ifp c1 hf
    cases hf
    exact ⟨hx, (EF.rf (S := S_X6_definition) _)⟩
  · replace hf := ifn c1 hf
    replace hf := caE hf
    obtain ⟨v3, h2, e_h2, hf⟩ := hf
    have q_h2 := EFc (EF.rf (S := S_X6_definition) _) (eX6_need F d hx e_h2) (by decide)
    have hx_h2 := q_h2.1
    have ef_h2 := q_h2.2
    by_cases c4 : v3 = 0
    · replace hf := ifp c4 hf
      cases hf
      exact ⟨hx_h2, ef_h2⟩
    · replace hf := ifn c4 hf
      replace hf := nnE hf
      obtain ⟨a6, e_a6, hf⟩ := hf
      have sa_a6 := hx_h2 609 _ _ e_a6
      replace hf := ckE hf
      obtain ⟨c7, hf⟩ := hf
      replace hf := bnE hf
      obtain ⟨h8, e_h8, hf⟩ := hf
      have hx_h8 := FX_sA hx_h2 e_h8
      have ef_h8 := EF_sA ef_h2 e_h8 (f := 609) (by decide) sa_a6
      cases hf
      exact ⟨hx_h8, ef_h8⟩
set_option maxHeartbeats 4000000 in
theorem eX6_definition_50 (F d : Nat) (this : Nat) (x1 : Int32) (h : Hp) (hx : FXs h) {r : Hp} (hf : fX6_definition_50 F d this x1 h = some r) : FXs r ∧ EF S_X6_definition h r := by
  unfold fX6_definition_50 at hf
  by_cases c1 : (gI h 604 this) ≤ 0
  · replace hf := ifp c1 hf
    replace hf := bnE hf
    obtain ⟨h2, e_h2, hf⟩ := hf
    have hx_h2 := FX_sI hx e_h2
    have ef_h2 := EF_sI (EF.rf (S := S_X6_definition) _) e_h2 (by decide)
    replace hf := caE hf
    obtain ⟨v4, h3, e_h3, hf⟩ := hf
    have q_h3 := EFc ef_h2 (eX6_need F d hx_h2 e_h3) (by decide)
    have hx_h3 := q_h3.1
    have ef_h3 := q_h3.2
    by_cases c5 : v4 = 0
    · replace hf := ifp c5 hf
      exact EFj ef_h3 (eX6_definition_85 F d _ _ _ _ hx_h3 hf)
    · replace hf := ifn c5 hf
      replace hf := caE hf
      obtain ⟨v7, h6, e_h6, hf⟩ := hf
      have q_h6 := EFc ef_h3 (eX6_whole F d hx_h3 e_h6) (by decide)
      have hx_h6 := q_h6.1
      have ef_h6 := q_h6.2
      exact EFj ef_h6 (eX6_definition_85 F d _ _ _ _ hx_h6 hf)
  · replace hf := ifn c1 hf
    cases hf
    exact ⟨hx, (EF.rf (S := S_X6_definition) _)⟩
set_option maxHeartbeats 4000000 in
theorem eX6_definition (F d : Nat) {this : Nat} {h : Hp} (hx : FXs h) {r : Hp} (hf : fX6_definition F d this h = some r) : FXs r ∧ EF S_X6_definition h r := by
  unfold fX6_definition at hf
  replace hf := caE hf
  obtain ⟨v2, h1, e_h1, hf⟩ := hf
  have q_h1 := EFc (EF.rf (S := S_X6_definition) _) (eX6_look F d hx e_h1) (by decide)
  have hx_h1 := q_h1.1
  have ef_h1 := q_h1.2
  replace hf := bnE hf
  obtain ⟨v3, e_v3, hf⟩ := hf
  replace hf := caE hf
  obtain ⟨v5, h4, e_h4, hf⟩ := hf
  have q_h4 := EFc ef_h1 (eX6_in F d hx_h1 e_h4) (by decide)
  have hx_h4 := q_h4.1
  have ef_h4 := q_h4.2
  by_cases c6 : v5 = 0
  · replace hf := ifp c6 hf
    replace hf := caE hf
    obtain ⟨v14, h13, e_h13, hf⟩ := hf
    have q_h13 := EFc ef_h4 (eX6_stop F d hx_h4 e_h13) (by decide)
    have hx_h13 := q_h13.1
    have ef_h13 := q_h13.2
    exact EFj ef_h13 (eX6_definition_50 F d _ _ _ hx_h13 hf)
  · replace hf := ifn c6 hf
    replace hf := nnE hf
    obtain ⟨a8, e_a8, hf⟩ := hf
    have sa_a8 := hx_h4 609 _ _ e_a8
    replace hf := ckE hf
    obtain ⟨c9, hf⟩ := hf
    by_cases c10 : (gA h4 a8 (Int32.toNatClampNeg v3)) < 0
    · replace hf := ifp c10 hf
      exact EFj ef_h4 (eX6_definition_50 F d _ _ _ hx_h4 hf)
    · replace hf := ifn c10 hf
      replace hf := caE hf
      obtain ⟨v12, h11, e_h11, hf⟩ := hf
      have q_h11 := EFc ef_h4 (eX6_stop F d hx_h4 e_h11) (by decide)
      have hx_h11 := q_h11.1
      have ef_h11 := q_h11.2
      exact EFj ef_h11 (eX6_definition_50 F d _ _ _ hx_h11 hf)
abbrev S_X6_compile : SS := ([600, 601, 603, 604, 605, 606, 610, 623, 624, 644], [], [608, 609, 611, 612, 613, 614, 615, 616, 617, 618, 619, 620, 621, 622, 625, 626, 655, 658], [], [])
set_option maxHeartbeats 4000000 in
theorem eX6_compile_80 (F d : Nat) (this : Nat) (s0 : Nat) (s1 : Int32) (h : Hp) (hx : FXs h) {r : Int32 × Hp} (hf : fX6_compile_80 F d this s0 s1 h = some r) : FXs r.2 ∧ EF S_X6_compile h r.2 := by
  unfold fX6_compile_80 at hf
  replace hf := ckE hf
  obtain ⟨c2, hf⟩ := hf
  replace hf := bnE hf
  obtain ⟨h1, e_h1, hf⟩ := hf
  have hx_h1 := FX_sI hx e_h1
  have ef_h1 := EF_sI (EF.rf (S := S_X6_compile) _) e_h1 (by decide)
  cases hf
  exact ⟨hx_h1, ef_h1⟩
set_option maxHeartbeats 4000000 in
theorem eX6_compile_67 (F d : Nat) (this : Nat) (h : Hp) (hx : FXs h) {r : Int32 × Hp} (hf : fX6_compile_67 F d this h = some r) : FXs r.2 ∧ EF S_X6_compile h r.2 := by
  unfold fX6_compile_67 at hf
  by_cases c1 : (gI h 604 this) = 0
  · replace hf := ifp c1 hf
    exact EFj (EF.rf (S := S_X6_compile) _) (eX6_compile_80 F d _ _ _ _ hx hf)
  · replace hf := ifn c1 hf
    exact EFj (EF.rf (S := S_X6_compile) _) (eX6_compile_80 F d _ _ _ _ hx hf)
set_option maxHeartbeats 4000000 in
theorem eX6_compile_45 (F d : Nat) : ∀ (n : Nat) (this : Nat) (h : Hp) (hx : FXs h) {r : Int32 × Hp}, fX6_compile_45 F d n this h = some r → FXs r.2 ∧ EF S_X6_compile h r.2 := by
  intro n
  induction n with
  | zero => intro _ _ _ r hf; cases hf
  | succ n ih =>
    intro this h hx r hf
    unfold fX6_compile_45 at hf
    replace hf := cvE hf
    obtain ⟨h1, e_h1, hf⟩ := hf
    have q_h1 := EFc (EF.rf (S := S_X6_compile) _) (eX6_definition F d hx e_h1) (by decide)
    have hx_h1 := q_h1.1
    have ef_h1 := q_h1.2
    by_cases c3 : (gI h1 604 this) = 0
    · replace hf := ifp c3 hf
      by_cases c4 : (gI h1 603 this) < (gI h1 602 this)
      · replace hf := ifp c4 hf
        exact EFj ef_h1 (ih _ _ hx_h1 hf)
      · replace hf := ifn c4 hf
        exact EFj ef_h1 (eX6_compile_67 F d _ _ hx_h1 hf)
    · replace hf := ifn c3 hf
      exact EFj ef_h1 (eX6_compile_67 F d _ _ hx_h1 hf)
set_option maxHeartbeats 4000000 in
theorem eX6_compile_26 (F d : Nat) : ∀ (n : Nat) (this : Nat) (x1 : Int32) (h : Hp) (hx : FXs h) {r : Int32 × Hp}, fX6_compile_26 F d n this x1 h = some r → FXs r.2 ∧ EF S_X6_compile h r.2 := by
  intro n
  induction n with
  | zero => intro _ _ _ _ r hf; cases hf
  | succ n ih =>
    intro this x1 h hx r hf
    unfold fX6_compile_26 at hf
    by_cases c1 : 26 ≤ x1
    · replace hf := ifp c1 hf
      exact EFj (EF.rf (S := S_X6_compile) _) (eX6_compile_45 F d F _ _ hx hf)
    · replace hf := ifn c1 hf
      replace hf := nnE hf
      obtain ⟨a3, e_a3, hf⟩ := hf
      have sa_a3 := hx 609 _ _ e_a3
      replace hf := ckE hf
      obtain ⟨c4, hf⟩ := hf
      replace hf := bnE hf
      obtain ⟨h5, e_h5, hf⟩ := hf
      have hx_h5 := FX_sA hx e_h5
      have ef_h5 := EF_sA (EF.rf (S := S_X6_compile) _) e_h5 (f := 609) (by decide) sa_a3
      replace hf := bnE hf
      obtain ⟨v6, e_v6, hf⟩ := hf
      exact EFj ef_h5 (ih _ _ _ hx_h5 hf)
set_option maxHeartbeats 4000000 in
theorem eX6_compile (F d : Nat) {this : Nat} {h : Hp} (hx : FXs h) {r : Int32 × Hp} (hf : fX6_compile F d this h = some r) : FXs r.2 ∧ EF S_X6_compile h r.2 := by
  unfold fX6_compile at hf
  replace hf := bnE hf
  obtain ⟨h1, e_h1, hf⟩ := hf
  have hx_h1 := FX_sI hx e_h1
  have ef_h1 := EF_sI (EF.rf (S := S_X6_compile) _) e_h1 (by decide)
  replace hf := cvE hf
  obtain ⟨h2, e_h2, hf⟩ := hf
  have q_h2 := EFc ef_h1 (eX6_leave F d hx_h1 e_h2) (by decide)
  have hx_h2 := q_h2.1
  have ef_h2 := q_h2.2
  replace hf := bnE hf
  obtain ⟨h4, e_h4, hf⟩ := hf
  have hx_h4 := FX_sI hx_h2 e_h4
  have ef_h4 := EF_sI ef_h2 e_h4 (by decide)
  replace hf := bnE hf
  obtain ⟨h5, e_h5, hf⟩ := hf
  have hx_h5 := FX_sI hx_h4 e_h5
  have ef_h5 := EF_sI ef_h4 e_h5 (by decide)
  replace hf := bnE hf
  obtain ⟨h6, e_h6, hf⟩ := hf
  have hx_h6 := FX_sI hx_h5 e_h6
  have ef_h6 := EF_sI ef_h5 e_h6 (by decide)
  exact EFj ef_h6 (eX6_compile_26 F d F _ _ _ hx_h6 hf)
abbrev S_X6_put : SS := ([600, 627], [], [631], [], [])
set_option maxHeartbeats 4000000 in
theorem eX6_put_33 (F d : Nat) : ∀ (n : Nat) (this : Nat) (x1 : Int64) (x4 : Int32) (h : Hp) (hx : FXs h) {r : Int32 × Hp}, fX6_put_33 F d n this x1 x4 h = some r → FXs r.2 ∧ EF S_X6_put h r.2 := by
  intro n
  induction n with
  | zero => intro _ _ _ _ _ r hf; cases hf
  | succ n ih =>
    intro this x1 x4 h hx r hf
    unfold fX6_put_33 at hf
    by_cases c1 : x4 < 0
    · replace hf := ifp c1 hf
      cases hf
      exact ⟨hx, (EF.rf (S := S_X6_put) _)⟩
    · replace hf := ifn c1 hf
      replace hf := nnE hf
      obtain ⟨a3, e_a3, hf⟩ := hf
      have sa_a3 := hx 631 _ _ e_a3
      replace hf := ckE hf
      obtain ⟨c4, hf⟩ := hf
      replace hf := bnE hf
      obtain ⟨h5, e_h5, hf⟩ := hf
      have hx_h5 := FX_sA hx e_h5
      have ef_h5 := EF_sA (EF.rf (S := S_X6_put) _) e_h5 (f := 631) (by decide) sa_a3
      replace hf := bnE hf
      obtain ⟨h6, e_h6, hf⟩ := hf
      have hx_h6 := FX_sI hx_h5 e_h6
      have ef_h6 := EF_sI ef_h5 e_h6 (by decide)
      replace hf := bnE hf
      obtain ⟨v7, e_v7, hf⟩ := hf
      exact EFj ef_h6 (ih _ _ _ _ hx_h6 hf)
set_option maxHeartbeats 4000000 in
theorem eX6_put (F d : Nat) {this : Nat} {p0 : Int64} {p1 : Int32} {h : Hp} (hx : FXs h) {r : Int32 × Hp} (hf : fX6_put F d this p0 p1 h = some r) : FXs r.2 ∧ EF S_X6_put h r.2 := by
  unfold fX6_put at hf
  replace hf := bnE hf
  obtain ⟨h1, e_h1, hf⟩ := hf
  have hx_h1 := FX_sI hx e_h1
  have ef_h1 := EF_sI (EF.rf (S := S_X6_put) _) e_h1 (by decide)
  replace hf := caE hf
  obtain ⟨v3, h2, e_h2, hf⟩ := hf
  have q_h2 := EFc ef_h1 (eX6_in F d hx_h1 e_h2) (by decide)
  have hx_h2 := q_h2.1
  have ef_h2 := q_h2.2
  by_cases c4 : v3 = 0
  · replace hf := ifp c4 hf
    cases hf
    exact ⟨hx_h2, ef_h2⟩
  · replace hf := ifn c4 hf
    by_cases c5 : ((gI h2 627 this) + p1) ≤ 120
    · replace hf := ifp c5 hf
      replace hf := bnE hf
      obtain ⟨v6, e_v6, hf⟩ := hf
      exact EFj ef_h2 (eX6_put_33 F d F _ _ _ _ hx_h2 hf)
    · replace hf := ifn c5 hf
      cases hf
      exact ⟨hx_h2, ef_h2⟩
abbrev S_X6_wipe : SS := ([600, 627], [], [], [], [])
set_option maxHeartbeats 4000000 in
theorem eX6_wipe (F d : Nat) {this : Nat} {h : Hp} (hx : FXs h) {r : Int32 × Hp} (hf : fX6_wipe F d this h = some r) : FXs r.2 ∧ EF S_X6_wipe h r.2 := by
  unfold fX6_wipe at hf
  replace hf := bnE hf
  obtain ⟨h1, e_h1, hf⟩ := hf
  have hx_h1 := FX_sI hx e_h1
  have ef_h1 := EF_sI (EF.rf (S := S_X6_wipe) _) e_h1 (by decide)
  replace hf := bnE hf
  obtain ⟨v2, e_v2, hf⟩ := hf
  replace hf := bnE hf
  obtain ⟨h3, e_h3, hf⟩ := hf
  have hx_h3 := FX_sI hx_h1 e_h3
  have ef_h3 := EF_sI ef_h1 e_h3 (by decide)
  cases hf
  exact ⟨hx_h3, ef_h3⟩
abbrev S_X6_at : SS := ([600], [], [], [], [])
set_option maxHeartbeats 4000000 in
theorem eX6_at_20 (F d : Nat) (this : Nat) (x1 : Int32) (s0 : Nat) (s1 : Int32) (h : Hp) (hx : FXs h) {r : Int32 × Hp} (hf : fX6_at_20 F d this x1 s0 s1 h = some r) : FXs r.2 ∧ EF S_X6_at h r.2 := by
  unfold fX6_at_20 at hf
  replace hf := bnE hf
  obtain ⟨h1, e_h1, hf⟩ := hf
  have hx_h1 := FX_sI hx e_h1
  have ef_h1 := EF_sI (EF.rf (S := S_X6_at) _) e_h1 (by decide)
  by_cases c2 : (gI h1 600 this) ≤ 0
  · replace hf := ifp c2 hf
    by_cases c3 : 0 ≤ x1
    · replace hf := ifp c3 hf
      replace hf := nnE hf
      obtain ⟨a5, e_a5, hf⟩ := hf
      have sa_a5 := hx_h1 631 _ _ e_a5
      replace hf := ckE hf
      obtain ⟨c6, hf⟩ := hf
      cases hf
      exact ⟨hx_h1, ef_h1⟩
    · replace hf := ifn c3 hf
      cases hf
      exact ⟨hx_h1, ef_h1⟩
  · replace hf := ifn c2 hf
    cases hf
    exact ⟨hx_h1, ef_h1⟩
set_option maxHeartbeats 4000000 in
theorem eX6_at (F d : Nat) {this : Nat} {p0 : Int32} {h : Hp} (hx : FXs h) {r : Int32 × Hp} (hf : fX6_at F d this p0 h = some r) : FXs r.2 ∧ EF S_X6_at h r.2 := by
  unfold fX6_at at hf
  replace hf := caE hf
  obtain ⟨v2, h1, e_h1, hf⟩ := hf
  have q_h1 := EFc (EF.rf (S := S_X6_at) _) (eX6_in F d hx e_h1) (by decide)
  have hx_h1 := q_h1.1
  have ef_h1 := q_h1.2
  by_cases c3 : v2 = 0
  · replace hf := ifp c3 hf
    exact EFj ef_h1 (eX6_at_20 F d _ _ _ _ _ hx_h1 hf)
  · replace hf := ifn c3 hf
    exact EFj ef_h1 (eX6_at_20 F d _ _ _ _ _ hx_h1 hf)
abbrev S_X6_typeOf : SS := ([], [], [], [], [])
set_option maxHeartbeats 4000000 in
theorem eX6_typeOf (F d : Nat) {this : Nat} {p0 : Int32} {h : Hp} (hx : FXs h) {r : Int32 × Hp} (hf : fX6_typeOf F d this p0 h = some r) : FXs r.2 ∧ EF S_X6_typeOf h r.2 := by
  unfold fX6_typeOf at hf
  replace hf := caE hf
  obtain ⟨v2, h1, e_h1, hf⟩ := hf
  have q_h1 := EFc (EF.rf (S := S_X6_typeOf) _) (eX6_in F d hx e_h1) (by decide)
  have hx_h1 := q_h1.1
  have ef_h1 := q_h1.2
  by_cases c3 : v2 = 0
  · replace hf := ifp c3 hf
    cases hf
    exact ⟨hx_h1, ef_h1⟩
  · replace hf := ifn c3 hf
    replace hf := nnE hf
    obtain ⟨a5, e_a5, hf⟩ := hf
    have sa_a5 := hx_h1 609 _ _ e_a5
    replace hf := ckE hf
    obtain ⟨c6, hf⟩ := hf
    cases hf
    exact ⟨hx_h1, ef_h1⟩
abbrev S_X6_asked : SS := ([], [], [], [], [])
set_option maxHeartbeats 4000000 in
theorem eX6_asked (F d : Nat) {this : Nat} {p0 : Int32} {p1 : Int32} {h : Hp} (hx : FXs h) {r : Int32 × Hp} (hf : fX6_asked F d this p0 p1 h = some r) : FXs r.2 ∧ EF S_X6_asked h r.2 := by
  unfold fX6_asked at hf
  by_cases c1 : p0 = 0
  · replace hf := ifp c1 hf
    cases hf
    exact ⟨hx, (EF.rf (S := S_X6_asked) _)⟩
  · replace hf := ifn c1 hf
    by_cases c2 : (gI h 601 this) = 0
    · replace hf := ifp c2 hf
      cases hf
      exact ⟨hx, (EF.rf (S := S_X6_asked) _)⟩
    · replace hf := ifn c2 hf
      replace hf := caE hf
      obtain ⟨v4, h3, e_h3, hf⟩ := hf
      have q_h3 := EFc (EF.rf (S := S_X6_asked) _) (eX6_typeOf F d hx e_h3) (by decide)
      have hx_h3 := q_h3.1
      have ef_h3 := q_h3.2
      by_cases c5 : 0 ≤ v4
      · replace hf := ifp c5 hf
        cases hf
        exact ⟨hx_h3, ef_h3⟩
      · replace hf := ifn c5 hf
        cases hf
        exact ⟨hx_h3, ef_h3⟩
abbrev S_X6_load : SS := ([628], [], [632], [], [])
set_option maxHeartbeats 4000000 in
theorem eX6_load_12 (F d : Nat) : ∀ (n : Nat) (this : Nat) (x1 : Int32) (x2 : Int32) (h : Hp) (hx : FXs h) {r : Hp}, fX6_load_12 F d n this x1 x2 h = some r → FXs r ∧ EF S_X6_load h r := by
  intro n
  induction n with
  | zero => intro _ _ _ _ _ r hf; cases hf
  | succ n ih =>
    intro this x1 x2 h hx r hf
    unfold fX6_load_12 at hf
    by_cases c1 : (gI h 628 this) ≤ x2
    · replace hf := ifp c1 hf
      cases hf
      exact ⟨hx, (EF.rf (S := S_X6_load) _)⟩
    · replace hf := ifn c1 hf
      replace hf := nnE hf
      obtain ⟨a3, e_a3, hf⟩ := hf
      have sa_a3 := hx 632 _ _ e_a3
      replace hf := nnE hf
      obtain ⟨a5, e_a5, hf⟩ := hf
      have sa_a5 := hx 631 _ _ e_a5
      replace hf := ckE hf
      obtain ⟨c6, hf⟩ := hf
      replace hf := ckE hf
      obtain ⟨c7, hf⟩ := hf
      replace hf := bnE hf
      obtain ⟨h8, e_h8, hf⟩ := hf
      have hx_h8 := FX_sA hx e_h8
      have ef_h8 := EF_sA (EF.rf (S := S_X6_load) _) e_h8 (f := 632) (by decide) sa_a3
      replace hf := bnE hf
      obtain ⟨v9, e_v9, hf⟩ := hf
      exact EFj ef_h8 (ih _ _ _ _ hx_h8 hf)
set_option maxHeartbeats 4000000 in
theorem eX6_load (F d : Nat) {this : Nat} {p0 : Int32} {h : Hp} (hx : FXs h) {r : Hp} (hf : fX6_load F d this p0 h = some r) : FXs r ∧ EF S_X6_load h r := by
  unfold fX6_load at hf
  replace hf := bnE hf
  obtain ⟨h1, e_h1, hf⟩ := hf
  have hx_h1 := FX_sI hx e_h1
  have ef_h1 := EF_sI (EF.rf (S := S_X6_load) _) e_h1 (by decide)
  exact EFj ef_h1 (eX6_load_12 F d F _ _ _ _ hx_h1 hf)
abbrev S_X6_bound : SS := ([], [], [], [], [])
set_option maxHeartbeats 4000000 in
theorem eX6_bound (F d : Nat) {this : Nat} {h : Hp} (hx : FXs h) {r : Int32 × Hp} (hf : fX6_bound F d this h = some r) : FXs r.2 ∧ EF S_X6_bound h r.2 := by
  unfold fX6_bound at hf
  by_cases c1 : (gI h 648 this) = 0
  · replace hf := ifp c1 hf
    cases hf
    exact ⟨hx, (EF.rf (S := S_X6_bound) _)⟩
  · replace hf := ifn c1 hf
    replace hf := nnE hf
    obtain ⟨a3, e_a3, hf⟩ := hf
    have sa_a3 := hx 651 _ _ e_a3
    replace hf := ckE hf
    obtain ⟨c4, hf⟩ := hf
    cases hf
    exact ⟨hx, (EF.rf (S := S_X6_bound) _)⟩
abbrev S_X6_next : SS := ([647, 649], [], [], [], [])
set_option maxHeartbeats 4000000 in
theorem eX6_next_16 (F d : Nat) (this : Nat) (h : Hp) (hx : FXs h) {r : Int32 × Hp} (hf : fX6_next_16 F d this h = some r) : FXs r.2 ∧ EF S_X6_next h r.2 := by
  unfold fX6_next_16 at hf
  replace hf := bnE hf
  obtain ⟨h1, e_h1, hf⟩ := hf
  have hx_h1 := FX_sI hx e_h1
  have ef_h1 := EF_sI (EF.rf (S := S_X6_next) _) e_h1 (by decide)
  by_cases c2 : (gI h1 649 this) = 0
  · replace hf := ifp c2 hf
    cases hf
    exact ⟨hx_h1, ef_h1⟩
  · replace hf := ifn c2 hf
    replace hf := nnE hf
    obtain ⟨a4, e_a4, hf⟩ := hf
    have sa_a4 := hx_h1 632 _ _ e_a4
    replace hf := ckE hf
    obtain ⟨c5, hf⟩ := hf
    cases hf
    exact ⟨hx_h1, ef_h1⟩
set_option maxHeartbeats 4000000 in
theorem eX6_next (F d : Nat) {this : Nat} {h : Hp} (hx : FXs h) {r : Int32 × Hp} (hf : fX6_next F d this h = some r) : FXs r.2 ∧ EF S_X6_next h r.2 := by
  unfold fX6_next at hf
  replace hf := caE hf
  obtain ⟨v2, h1, e_h1, hf⟩ := hf
  have q_h1 := EFc (EF.rf (S := S_X6_next) _) (eX6_bound F d hx e_h1) (by decide)
  have hx_h1 := q_h1.1
  have ef_h1 := q_h1.2
  by_cases c3 : (gI h 647 this) < v2
  · replace hf := ifp c3 hf
    exact EFj ef_h1 (eX6_next_16 F d _ _ hx_h1 hf)
  · replace hf := ifn c3 hf
    replace hf := bnE hf
    obtain ⟨h4, e_h4, hf⟩ := hf
    have hx_h4 := FX_sI hx_h1 e_h4
    have ef_h4 := EF_sI ef_h1 e_h4 (by decide)
    exact EFj ef_h4 (eX6_next_16 F d _ _ hx_h4 hf)
abbrev S_X6_length : SS := ([647, 649], [], [], [], [])
set_option maxHeartbeats 4000000 in
theorem eX6_length_91 (F d : Nat) (this : Nat) (x2 : Int32) (h : Hp) (hx : FXs h) {r : Int32 × Hp} (hf : fX6_length_91 F d this x2 h = some r) : FXs r.2 ∧ EF S_X6_length h r.2 := by
  unfold fX6_length_91 at hf
  by_cases c1 : (gI h 649 this) = 0
  · replace hf := ifp c1 hf
    cases hf
    exact ⟨hx, (EF.rf (S := S_X6_length) _)⟩
  · replace hf := ifn c1 hf
    cases hf
    exact ⟨hx, (EF.rf (S := S_X6_length) _)⟩
set_option maxHeartbeats 4000000 in
theorem eX6_length_73 (F d : Nat) (this : Nat) (x2 : Int32) (h : Hp) (hx : FXs h) {r : Int32 × Hp} (hf : fX6_length_73 F d this x2 h = some r) : FXs r.2 ∧ EF S_X6_length h r.2 := by
  unfold fX6_length_73 at hf
  replace hf := caE hf
  obtain ⟨v2, h1, e_h1, hf⟩ := hf
  have q_h1 := EFc (EF.rf (S := S_X6_length) _) (eX6_bound F d hx e_h1) (by decide)
  have hx_h1 := q_h1.1
  have ef_h1 := q_h1.2
  by_cases c3 : ((gI h 647 this) + x2) ≤ v2
  · replace hf := ifp c3 hf
    exact EFj ef_h1 (eX6_length_91 F d _ _ _ hx_h1 hf)
  · replace hf := ifn c3 hf
    replace hf := bnE hf
    obtain ⟨h4, e_h4, hf⟩ := hf
    have hx_h4 := FX_sI hx_h1 e_h4
    have ef_h4 := EF_sI ef_h1 e_h4 (by decide)
    exact EFj ef_h4 (eX6_length_91 F d _ _ _ hx_h4 hf)
set_option maxHeartbeats 4000000 in
theorem eX6_length_37 (F d : Nat) (this : Nat) (x2 : Int32) (h : Hp) (hx : FXs h) {r : Int32 × Hp} (hf : fX6_length_37 F d this x2 h = some r) : FXs r.2 ∧ EF S_X6_length h r.2 := by
  unfold fX6_length_37 at hf
  by_cases c1 : x2 = 129
  · replace hf := ifp c1 hf
    replace hf := caE hf
    obtain ⟨v9, h8, e_h8, hf⟩ := hf
    have q_h8 := EFc (EF.rf (S := S_X6_length) _) (eX6_next F d hx e_h8) (by decide)
    have hx_h8 := q_h8.1
    have ef_h8 := q_h8.2
    exact EFj ef_h8 (eX6_length_73 F d _ _ _ hx_h8 hf)
  · replace hf := ifn c1 hf
    by_cases c2 : x2 = 130
    · replace hf := ifp c2 hf
      replace hf := caE hf
      obtain ⟨v4, h3, e_h3, hf⟩ := hf
      have q_h3 := EFc (EF.rf (S := S_X6_length) _) (eX6_next F d hx e_h3) (by decide)
      have hx_h3 := q_h3.1
      have ef_h3 := q_h3.2
      replace hf := caE hf
      obtain ⟨v6, h5, e_h5, hf⟩ := hf
      have q_h5 := EFc ef_h3 (eX6_next F d hx_h3 e_h5) (by decide)
      have hx_h5 := q_h5.1
      have ef_h5 := q_h5.2
      replace hf := bnE hf
      obtain ⟨v7, e_v7, hf⟩ := hf
      exact EFj ef_h5 (eX6_length_73 F d _ _ _ hx_h5 hf)
    · replace hf := ifn c2 hf
      exact EFj (EF.rf (S := S_X6_length) _) (eX6_length_73 F d _ _ _ hx hf)
set_option maxHeartbeats 4000000 in
theorem eX6_length_32 (F d : Nat) (this : Nat) (x2 : Int32) (h : Hp) (hx : FXs h) {r : Int32 × Hp} (hf : fX6_length_32 F d this x2 h = some r) : FXs r.2 ∧ EF S_X6_length h r.2 := by
  unfold fX6_length_32 at hf
  replace hf := bnE hf
  obtain ⟨h1, e_h1, hf⟩ := hf
  have hx_h1 := FX_sI hx e_h1
  have ef_h1 := EF_sI (EF.rf (S := S_X6_length) _) e_h1 (by decide)
  exact EFj ef_h1 (eX6_length_37 F d _ _ _ hx_h1 hf)
set_option maxHeartbeats 4000000 in
theorem eX6_length_18 (F d : Nat) (this : Nat) (x2 : Int32) (h : Hp) (hx : FXs h) {r : Int32 × Hp} (hf : fX6_length_18 F d this x2 h = some r) : FXs r.2 ∧ EF S_X6_length h r.2 := by
  unfold fX6_length_18 at hf
  by_cases c1 : 130 < x2
  · replace hf := ifp c1 hf
    exact EFj (EF.rf (S := S_X6_length) _) (eX6_length_32 F d _ _ _ hx hf)
  · replace hf := ifn c1 hf
    by_cases c2 : x2 = 128
    · replace hf := ifp c2 hf
      exact EFj (EF.rf (S := S_X6_length) _) (eX6_length_32 F d _ _ _ hx hf)
    · replace hf := ifn c2 hf
      exact EFj (EF.rf (S := S_X6_length) _) (eX6_length_37 F d _ _ _ hx hf)
set_option maxHeartbeats 4000000 in
theorem eX6_length (F d : Nat) {this : Nat} {p0 : Int32} {h : Hp} (hx : FXs h) {r : Int32 × Hp} (hf : fX6_length F d this p0 h = some r) : FXs r.2 ∧ EF S_X6_length h r.2 := by
  unfold fX6_length at hf
  replace hf := caE hf
  obtain ⟨v2, h1, e_h1, hf⟩ := hf
  have q_h1 := EFc (EF.rf (S := S_X6_length) _) (eX6_next F d hx e_h1) (by decide)
  have hx_h1 := q_h1.1
  have ef_h1 := q_h1.2
  by_cases c3 : v2 = 128
  · replace hf := ifp c3 hf
    by_cases c4 : p0 = 0
    · replace hf := ifp c4 hf
      exact EFj ef_h1 (eX6_length_18 F d _ _ _ hx_h1 hf)
    · replace hf := ifn c4 hf
      cases hf
      exact ⟨hx_h1, ef_h1⟩
  · replace hf := ifn c3 hf
    exact EFj ef_h1 (eX6_length_18 F d _ _ _ hx_h1 hf)
abbrev S_X6_frame : SS := ([648], [], [650, 651, 652, 653, 654], [], [])
set_option maxHeartbeats 4000000 in
theorem eX6_frame (F d : Nat) {this : Nat} {p0 : Int32} {p1 : Int32} {p2 : Int32} {h : Hp} (hx : FXs h) {r : Hp} (hf : fX6_frame F d this p0 p1 p2 h = some r) : FXs r ∧ EF S_X6_frame h r := by
  unfold fX6_frame at hf
  replace hf := nnE hf
  obtain ⟨a2, e_a2, hf⟩ := hf
  have sa_a2 := hx 650 _ _ e_a2
  replace hf := ckE hf
  obtain ⟨c3, hf⟩ := hf
  replace hf := bnE hf
  obtain ⟨h4, e_h4, hf⟩ := hf
  have hx_h4 := FX_sA hx e_h4
  have ef_h4 := EF_sA (EF.rf (S := S_X6_frame) _) e_h4 (f := 650) (by decide) sa_a2
  replace hf := nnE hf
  obtain ⟨a6, e_a6, hf⟩ := hf
  have sa_a6 := hx_h4 651 _ _ e_a6
  replace hf := ckE hf
  obtain ⟨c7, hf⟩ := hf
  replace hf := bnE hf
  obtain ⟨h8, e_h8, hf⟩ := hf
  have hx_h8 := FX_sA hx_h4 e_h8
  have ef_h8 := EF_sA ef_h4 e_h8 (f := 651) (by decide) sa_a6
  replace hf := nnE hf
  obtain ⟨a10, e_a10, hf⟩ := hf
  have sa_a10 := hx_h8 654 _ _ e_a10
  replace hf := ckE hf
  obtain ⟨c11, hf⟩ := hf
  replace hf := ckE hf
  obtain ⟨c13, hf⟩ := hf
  replace hf := bnE hf
  obtain ⟨h12, e_h12, hf⟩ := hf
  have hx_h12 := FX_sA hx_h8 e_h12
  have ef_h12 := EF_sA ef_h8 e_h12 (f := 654) (by decide) sa_a10
  replace hf := nnE hf
  obtain ⟨a15, e_a15, hf⟩ := hf
  have sa_a15 := hx_h12 652 _ _ e_a15
  replace hf := ckE hf
  obtain ⟨c16, hf⟩ := hf
  replace hf := bnE hf
  obtain ⟨h17, e_h17, hf⟩ := hf
  have hx_h17 := FX_sA hx_h12 e_h17
  have ef_h17 := EF_sA ef_h12 e_h17 (f := 652) (by decide) sa_a15
  replace hf := nnE hf
  obtain ⟨a19, e_a19, hf⟩ := hf
  have sa_a19 := hx_h17 653 _ _ e_a19
  replace hf := ckE hf
  obtain ⟨c20, hf⟩ := hf
  replace hf := bnE hf
  obtain ⟨h21, e_h21, hf⟩ := hf
  have hx_h21 := FX_sA hx_h17 e_h21
  have ef_h21 := EF_sA ef_h17 e_h21 (f := 653) (by decide) sa_a19
  replace hf := bnE hf
  obtain ⟨h22, e_h22, hf⟩ := hf
  have hx_h22 := FX_sI hx_h21 e_h22
  have ef_h22 := EF_sI ef_h21 e_h22 (by decide)
  cases hf
  exact ⟨hx_h22, ef_h22⟩
abbrev S_X6_enter : SS := ([647, 648, 649], [], [650, 651, 652, 653, 654], [], [])
set_option maxHeartbeats 4000000 in
theorem eX6_enter_34 (F d : Nat) (s0 : Nat) (s1 : Int32) (s2 : Int32) (s3 : Int32) (h : Hp) (hx : FXs h) {r : Hp} (hf : fX6_enter_34 F d s0 s1 s2 s3 h = some r) : FXs r ∧ EF S_X6_enter h r := by
  unfold fX6_enter_34 at hf
  replace hf := cvE hf
  obtain ⟨h1, e_h1, hf⟩ := hf
  have q_h1 := EFc (EF.rf (S := S_X6_enter) _) (eX6_frame F d hx e_h1) (by decide)
  have hx_h1 := q_h1.1
  have ef_h1 := q_h1.2
  cases hf
  exact ⟨hx_h1, ef_h1⟩
set_option maxHeartbeats 4000000 in
theorem eX6_enter_25 (F d : Nat) (x2 : Int32) (s0 : Nat) (s1 : Int32) (s2 : Int32) (h : Hp) (hx : FXs h) {r : Hp} (hf : fX6_enter_25 F d x2 s0 s1 s2 h = some r) : FXs r ∧ EF S_X6_enter h r := by
  unfold fX6_enter_25 at hf
  by_cases c1 : 0 ≤ x2
  · replace hf := ifp c1 hf
    exact EFj (EF.rf (S := S_X6_enter) _) (eX6_enter_34 F d _ _ _ _ _ hx hf)
  · replace hf := ifn c1 hf
    exact EFj (EF.rf (S := S_X6_enter) _) (eX6_enter_34 F d _ _ _ _ _ hx hf)
set_option maxHeartbeats 4000000 in
theorem eX6_enter (F d : Nat) {this : Nat} {p0 : Int32} {h : Hp} (hx : FXs h) {r : Hp} (hf : fX6_enter F d this p0 h = some r) : FXs r ∧ EF S_X6_enter h r := by
  unfold fX6_enter at hf
  replace hf := caE hf
  obtain ⟨v2, h1, e_h1, hf⟩ := hf
  have q_h1 := EFc (EF.rf (S := S_X6_enter) _) (eX6_length F d hx e_h1) (by decide)
  have hx_h1 := q_h1.1
  have ef_h1 := q_h1.2
  by_cases c3 : 0 ≤ v2
  · replace hf := ifp c3 hf
    exact EFj ef_h1 (eX6_enter_25 F d _ _ _ _ _ hx_h1 hf)
  · replace hf := ifn c3 hf
    replace hf := caE hf
    obtain ⟨v5, h4, e_h4, hf⟩ := hf
    have q_h4 := EFc ef_h1 (eX6_bound F d hx_h1 e_h4) (by decide)
    have hx_h4 := q_h4.1
    have ef_h4 := q_h4.2
    exact EFj ef_h4 (eX6_enter_25 F d _ _ _ _ _ hx_h4 hf)
abbrev S_X6_bitOf : SS := ([], [], [], [], [])
set_option maxHeartbeats 4000000 in
theorem eX6_bitOf_26 (F d : Nat) (x0 : Int32) (h : Hp) (hx : FXs h) {r : Int32 × Hp} (hf : fX6_bitOf_26 F d x0 h = some r) : FXs r.2 ∧ EF S_X6_bitOf h r.2 := by
  unfold fX6_bitOf_26 at hf
  cases hf
  exact ⟨hx, (EF.rf (S := S_X6_bitOf) _)⟩
set_option maxHeartbeats 4000000 in
theorem eX6_bitOf_56 (F d : Nat) (x0 : Int32) (h : Hp) (hx : FXs h) {r : Int32 × Hp} (hf : fX6_bitOf_56 F d x0 h = some r) : FXs r.2 ∧ EF S_X6_bitOf h r.2 := by
  unfold fX6_bitOf_56 at hf
  cases hf
  exact ⟨hx, (EF.rf (S := S_X6_bitOf) _)⟩
set_option maxHeartbeats 4000000 in
theorem eX6_bitOf (F d : Nat) {p0 : Int32} {h : Hp} (hx : FXs h) {r : Int32 × Hp} (hf : fX6_bitOf F d p0 h = some r) : FXs r.2 ∧ EF S_X6_bitOf h r.2 := by
  unfold fX6_bitOf at hf
  replace hf := caE hf
  obtain ⟨v2, h1, e_h1, hf⟩ := hf
  have q_h1 := EFc (EF.rf (S := S_X6_bitOf) _) (eX6_in F d hx e_h1) (by decide)
  have hx_h1 := q_h1.1
  have ef_h1 := q_h1.2
  by_cases c3 : v2 = 0
  · replace hf := ifp c3 hf
    replace hf := caE hf
    obtain ⟨v5, h4, e_h4, hf⟩ := hf
    have q_h4 := EFc ef_h1 (eX6_in F d hx_h1 e_h4) (by decide)
    have hx_h4 := q_h4.1
    have ef_h4 := q_h4.2
    by_cases c6 : v5 = 0
    · replace hf := ifp c6 hf
      by_cases c7 : p0 = 1
      · replace hf := ifp c7 hf
        exact EFj ef_h4 (eX6_bitOf_56 F d _ _ hx_h4 hf)
      · replace hf := ifn c7 hf
        by_cases c8 : p0 = 2
        · replace hf := ifp c8 hf
          exact EFj ef_h4 (eX6_bitOf_56 F d _ _ hx_h4 hf)
        · replace hf := ifn c8 hf
          by_cases c9 : p0 = 4
          · replace hf := ifp c9 hf
            exact EFj ef_h4 (eX6_bitOf_56 F d _ _ hx_h4 hf)
          · replace hf := ifn c9 hf
            by_cases c10 : p0 = 5
            · replace hf := ifp c10 hf
              exact EFj ef_h4 (eX6_bitOf_56 F d _ _ hx_h4 hf)
            · replace hf := ifn c10 hf
              by_cases c11 : p0 = 48
              · replace hf := ifp c11 hf
                cases hf
                exact ⟨hx_h4, ef_h4⟩
              · replace hf := ifn c11 hf
                cases hf
                exact ⟨hx_h4, ef_h4⟩
    · replace hf := ifn c6 hf
      exact EFj ef_h4 (eX6_bitOf_26 F d _ _ hx_h4 hf)
  · replace hf := ifn c3 hf
    exact EFj ef_h1 (eX6_bitOf_26 F d _ _ hx_h1 hf)
abbrev S_X6_adds : SS := ([634, 649], [], [636, 637, 638, 639, 640], [], [])
set_option maxHeartbeats 4000000 in
theorem eX6_adds_14 (F d : Nat) (this : Nat) (x1 : Int32) (x2 : Int32) (x3 : Int32) (x4 : Int32) (h : Hp) (hx : FXs h) {r : Int32 × Hp} (hf : fX6_adds_14 F d this x1 x2 x3 x4 h = some r) : FXs r.2 ∧ EF S_X6_adds h r.2 := by
  unfold fX6_adds_14 at hf
  by_cases c1 : (gI h 649 this) = 0
  · replace hf := ifp c1 hf
    cases hf
    exact ⟨hx, (EF.rf (S := S_X6_adds) _)⟩
  · replace hf := ifn c1 hf
    replace hf := nnE hf
    obtain ⟨a3, e_a3, hf⟩ := hf
    have sa_a3 := hx 636 _ _ e_a3
    replace hf := ckE hf
    obtain ⟨c4, hf⟩ := hf
    replace hf := bnE hf
    obtain ⟨h5, e_h5, hf⟩ := hf
    have hx_h5 := FX_sA hx e_h5
    have ef_h5 := EF_sA (EF.rf (S := S_X6_adds) _) e_h5 (f := 636) (by decide) sa_a3
    replace hf := nnE hf
    obtain ⟨a7, e_a7, hf⟩ := hf
    have sa_a7 := hx_h5 639 _ _ e_a7
    replace hf := ckE hf
    obtain ⟨c8, hf⟩ := hf
    replace hf := bnE hf
    obtain ⟨h9, e_h9, hf⟩ := hf
    have hx_h9 := FX_sA hx_h5 e_h9
    have ef_h9 := EF_sA ef_h5 e_h9 (f := 639) (by decide) sa_a7
    replace hf := nnE hf
    obtain ⟨a11, e_a11, hf⟩ := hf
    have sa_a11 := hx_h9 638 _ _ e_a11
    replace hf := ckE hf
    obtain ⟨c12, hf⟩ := hf
    replace hf := bnE hf
    obtain ⟨h13, e_h13, hf⟩ := hf
    have hx_h13 := FX_sA hx_h9 e_h13
    have ef_h13 := EF_sA ef_h9 e_h13 (f := 638) (by decide) sa_a11
    replace hf := nnE hf
    obtain ⟨a15, e_a15, hf⟩ := hf
    have sa_a15 := hx_h13 637 _ _ e_a15
    replace hf := ckE hf
    obtain ⟨c16, hf⟩ := hf
    replace hf := bnE hf
    obtain ⟨h17, e_h17, hf⟩ := hf
    have hx_h17 := FX_sA hx_h13 e_h17
    have ef_h17 := EF_sA ef_h13 e_h17 (f := 637) (by decide) sa_a15
    replace hf := nnE hf
    obtain ⟨a19, e_a19, hf⟩ := hf
    have sa_a19 := hx_h17 640 _ _ e_a19
    replace hf := ckE hf
    obtain ⟨c20, hf⟩ := hf
    replace hf := bnE hf
    obtain ⟨h21, e_h21, hf⟩ := hf
    have hx_h21 := FX_sA hx_h17 e_h21
    have ef_h21 := EF_sA ef_h17 e_h21 (f := 640) (by decide) sa_a19
    replace hf := bnE hf
    obtain ⟨h22, e_h22, hf⟩ := hf
    have hx_h22 := FX_sI hx_h21 e_h22
    have ef_h22 := EF_sI ef_h21 e_h22 (by decide)
    cases hf
    exact ⟨hx_h22, ef_h22⟩
set_option maxHeartbeats 4000000 in
theorem eX6_adds (F d : Nat) {this : Nat} {p0 : Int32} {p1 : Int32} {p2 : Int32} {p3 : Int32} {h : Hp} (hx : FXs h) {r : Int32 × Hp} (hf : fX6_adds F d this p0 p1 p2 p3 h = some r) : FXs r.2 ∧ EF S_X6_adds h r.2 := by
  unfold fX6_adds at hf
  by_cases c1 : (gI h 634 this) = 100
  · replace hf := ifp c1 hf
    replace hf := bnE hf
    obtain ⟨h2, e_h2, hf⟩ := hf
    have hx_h2 := FX_sI hx e_h2
    have ef_h2 := EF_sI (EF.rf (S := S_X6_adds) _) e_h2 (by decide)
    exact EFj ef_h2 (eX6_adds_14 F d _ _ _ _ _ _ hx_h2 hf)
  · replace hf := ifn c1 hf
    exact EFj (EF.rf (S := S_X6_adds) _) (eX6_adds_14 F d _ _ _ _ _ _ hx hf)
abbrev S_X6_bytesOf : SS := ([], [], [], [], [])
set_option maxHeartbeats 4000000 in
theorem eX6_bytesOf (F d : Nat) {p0 : Int32} {h : Hp} (hx : FXs h) {r : Int32 × Hp} (hf : fX6_bytesOf F d p0 h = some r) : FXs r.2 ∧ EF S_X6_bytesOf h r.2 := by
  unfold fX6_bytesOf at hf
  replace hf := caE hf
  obtain ⟨v2, h1, e_h1, hf⟩ := hf
  have q_h1 := EFc (EF.rf (S := S_X6_bytesOf) _) (eX6_in F d hx e_h1) (by decide)
  have hx_h1 := q_h1.1
  have ef_h1 := q_h1.2
  by_cases c3 : v2 = 0
  · replace hf := ifp c3 hf
    replace hf := caE hf
    obtain ⟨v5, h4, e_h4, hf⟩ := hf
    have q_h4 := EFc ef_h1 (eX6_in F d hx_h1 e_h4) (by decide)
    have hx_h4 := q_h4.1
    have ef_h4 := q_h4.2
    by_cases c6 : v5 = 0
    · replace hf := ifp c6 hf
      replace hf := caE hf
      obtain ⟨v8, h7, e_h7, hf⟩ := hf
      have q_h7 := EFc ef_h4 (eX6_in F d hx_h4 e_h7) (by decide)
      have hx_h7 := q_h7.1
      have ef_h7 := q_h7.2
      by_cases c9 : v8 = 0
      · replace hf := ifp c9 hf
        cases hf
        exact ⟨hx_h7, ef_h7⟩
      · replace hf := ifn c9 hf
        cases hf
        exact ⟨hx_h7, ef_h7⟩
    · replace hf := ifn c6 hf
      cases hf
      exact ⟨hx_h4, ef_h4⟩
  · replace hf := ifn c3 hf
    cases hf
    exact ⟨hx_h1, ef_h1⟩
abbrev S_X6_inner : SS := ([634, 635, 647, 648, 649], [], [636, 637, 638, 639, 640, 643, 650, 651, 652, 653, 654], [], [])
set_option maxHeartbeats 4000000 in
theorem eX6_inner_382 (F d : Nat) (s0 : Nat) (h : Hp) (hx : FXs h) {r : Hp} (hf : fX6_inner_382 F d s0 h = some r) : FXs r ∧ EF S_X6_inner h r := by
  unfold fX6_inner_382 at hf
  replace hf := bnE hf
  obtain ⟨h1, e_h1, hf⟩ := hf
  have hx_h1 := FX_sI hx e_h1
  have ef_h1 := EF_sI (EF.rf (S := S_X6_inner) _) e_h1 (by decide)
  cases hf
  exact ⟨hx_h1, ef_h1⟩
set_option maxHeartbeats 4000000 in
theorem eX6_inner_339 (F d : Nat) (this : Nat) (x5 : Int32) (s0 : Nat) (h : Hp) (hx : FXs h) {r : Hp} (hf : fX6_inner_339 F d this x5 s0 h = some r) : FXs r ∧ EF S_X6_inner h r := by
  unfold fX6_inner_339 at hf
  replace hf := nnE hf
  obtain ⟨a2, e_a2, hf⟩ := hf
  have sa_a2 := hx 618 _ _ e_a2
  replace hf := ckE hf
  obtain ⟨c3, hf⟩ := hf
  by_cases c4 : (gA h a2 (Int32.toNatClampNeg (gI h 623 this))) = 0
  · replace hf := ifp c4 hf
    exact EFj (EF.rf (S := S_X6_inner) _) (eX6_inner_382 F d _ _ hx hf)
  · replace hf := ifn c4 hf
    replace hf := nnE hf
    obtain ⟨a6, e_a6, hf⟩ := hf
    have sa_a6 := hx 637 _ _ e_a6
    replace hf := ckE hf
    obtain ⟨c7, hf⟩ := hf
    replace hf := nnE hf
    obtain ⟨a9, e_a9, hf⟩ := hf
    have sa_a9 := hx 612 _ _ e_a9
    replace hf := ckE hf
    obtain ⟨c10, hf⟩ := hf
    replace hf := nnE hf
    obtain ⟨a12, e_a12, hf⟩ := hf
    have sa_a12 := hx 613 _ _ e_a12
    replace hf := ckE hf
    obtain ⟨c13, hf⟩ := hf
    replace hf := caE hf
    obtain ⟨v15, h14, e_h14, hf⟩ := hf
    have q_h14 := EFc (EF.rf (S := S_X6_inner) _) (eX6_in F d hx e_h14) (by decide)
    have hx_h14 := q_h14.1
    have ef_h14 := q_h14.2
    by_cases c16 : v15 = 0
    · replace hf := ifp c16 hf
      replace hf := bnE hf
      obtain ⟨h17, e_h17, hf⟩ := hf
      have hx_h17 := FX_sI hx_h14 e_h17
      have ef_h17 := EF_sI ef_h14 e_h17 (by decide)
      cases hf
      exact ⟨hx_h17, ef_h17⟩
    · replace hf := ifn c16 hf
      exact EFj ef_h14 (eX6_inner_382 F d _ _ hx_h14 hf)
set_option maxHeartbeats 4000000 in
theorem eX6_inner_321 (F d : Nat) (this : Nat) (x4 : Int32) (x5 : Int32) (x7 : Int32) (x8 : Int32) (s0 : Nat) (s1 : Int32) (s2 : Int32) (h : Hp) (hx : FXs h) (sa_s0 : saF 637 s0 = true) {r : Hp} (hf : fX6_inner_321 F d this x4 x5 x7 x8 s0 s1 s2 h = some r) : FXs r ∧ EF S_X6_inner h r := by
  unfold fX6_inner_321 at hf
  replace hf := ckE hf
  obtain ⟨c1, hf⟩ := hf
  replace hf := bnE hf
  obtain ⟨h2, e_h2, hf⟩ := hf
  have hx_h2 := FX_sA hx e_h2
  have ef_h2 := EF_sA (EF.rf (S := S_X6_inner) _) e_h2 (f := 637) (by decide) sa_s0
  by_cases c3 : x4 = 2
  · replace hf := ifp c3 hf
    replace hf := caE hf
    obtain ⟨v5, h4, e_h4, hf⟩ := hf
    have q_h4 := EFc ef_h2 (eX6_bytesOf F d hx_h2 e_h4) (by decide)
    have hx_h4 := q_h4.1
    have ef_h4 := q_h4.2
    by_cases c6 : x7 = v5
    · replace hf := ifp c6 hf
      exact EFj ef_h4 (eX6_inner_339 F d _ _ _ _ hx_h4 hf)
    · replace hf := ifn c6 hf
      replace hf := bnE hf
      obtain ⟨h7, e_h7, hf⟩ := hf
      have hx_h7 := FX_sI hx_h4 e_h7
      have ef_h7 := EF_sI ef_h4 e_h7 (by decide)
      cases hf
      exact ⟨hx_h7, ef_h7⟩
  · replace hf := ifn c3 hf
    exact EFj ef_h2 (eX6_inner_339 F d _ _ _ _ hx_h2 hf)
set_option maxHeartbeats 4000000 in
theorem eX6_inner_263 (F d : Nat) (k_205 : Nat → Int32 → Int32 → Int32 → Int32 → Int32 → Hp → Option (Hp)) (hk_205 : ∀ (this : Nat) (x4 : Int32) (x5 : Int32) (x7 : Int32) (x8 : Int32) (x9 : Int32) (h : Hp) (hx : FXs h) {r : Hp}, k_205 this x4 x5 x7 x8 x9 h = some r → FXs r ∧ EF S_X6_inner h r) (this : Nat) (x4 : Int32) (x5 : Int32) (x7 : Int32) (x8 : Int32) (x9 : Int32) (s0 : Nat) (s1 : Int32) (s2 : Int32) (h : Hp) (hx : FXs h) {r : Hp} (hf : fX6_inner_263 F d k_205 this x4 x5 x7 x8 x9 s0 s1 s2 h = some r) : FXs r ∧ EF S_X6_inner h r := by
  unfold fX6_inner_263 at hf
  replace hf := bnE hf
  obtain ⟨h1, e_h1, hf⟩ := hf
  have hx_h1 := FX_sI hx e_h1
  have ef_h1 := EF_sI (EF.rf (S := S_X6_inner) _) e_h1 (by decide)
  replace hf := bnE hf
  obtain ⟨h2, e_h2, hf⟩ := hf
  have hx_h2 := FX_sI hx_h1 e_h2
  have ef_h2 := EF_sI ef_h1 e_h2 (by decide)
  replace hf := bnE hf
  obtain ⟨v3, e_v3, hf⟩ := hf
  exact EFj ef_h2 (hk_205 _ _ _ _ _ _ _ hx_h2 hf)
set_option maxHeartbeats 4000000 in
theorem eX6_inner_205 (F d : Nat) : ∀ (n : Nat) (this : Nat) (x4 : Int32) (x5 : Int32) (x7 : Int32) (x8 : Int32) (x9 : Int32) (h : Hp) (hx : FXs h) {r : Hp}, fX6_inner_205 F d n this x4 x5 x7 x8 x9 h = some r → FXs r ∧ EF S_X6_inner h r := by
  intro n
  induction n with
  | zero => intro _ _ _ _ _ _ _ _ r hf; cases hf
  | succ n ih =>
    intro this x4 x5 x7 x8 x9 h hx r hf
    unfold fX6_inner_205 at hf
    by_cases c1 : x7 ≤ x9
    · replace hf := ifp c1 hf
      replace hf := nnE hf
      obtain ⟨a3, e_a3, hf⟩ := hf
      have sa_a3 := hx 637 _ _ e_a3
      by_cases c4 : x4 = 2
      · replace hf := ifp c4 hf
        exact EFj (EF.rf (S := S_X6_inner) _) (eX6_inner_321 F d _ _ _ _ _ _ _ _ _ hx sa_a3 hf)
      · replace hf := ifn c4 hf
        by_cases c5 : x4 = 4
        · replace hf := ifp c5 hf
          exact EFj (EF.rf (S := S_X6_inner) _) (eX6_inner_321 F d _ _ _ _ _ _ _ _ _ hx sa_a3 hf)
        · replace hf := ifn c5 hf
          by_cases c6 : x8 ≤ 0
          · replace hf := ifp c6 hf
            exact EFj (EF.rf (S := S_X6_inner) _) (eX6_inner_321 F d _ _ _ _ _ _ _ _ _ hx sa_a3 hf)
          · replace hf := ifn c6 hf
            exact EFj (EF.rf (S := S_X6_inner) _) (eX6_inner_321 F d _ _ _ _ _ _ _ _ _ hx sa_a3 hf)
    · replace hf := ifn c1 hf
      replace hf := nnE hf
      obtain ⟨a8, e_a8, hf⟩ := hf
      have sa_a8 := hx 632 _ _ e_a8
      replace hf := ckE hf
      obtain ⟨c9, hf⟩ := hf
      replace hf := bnE hf
      obtain ⟨v10, e_v10, hf⟩ := hf
      replace hf := nnE hf
      obtain ⟨a12, e_a12, hf⟩ := hf
      have sa_a12 := hx 643 _ _ e_a12
      replace hf := nnE hf
      obtain ⟨a14, e_a14, hf⟩ := hf
      have sa_a14 := hx 632 _ _ e_a14
      replace hf := ckE hf
      obtain ⟨c15, hf⟩ := hf
      replace hf := ckE hf
      obtain ⟨c16, hf⟩ := hf
      replace hf := bnE hf
      obtain ⟨h17, e_h17, hf⟩ := hf
      have hx_h17 := FX_sA hx e_h17
      have ef_h17 := EF_sA (EF.rf (S := S_X6_inner) _) e_h17 (f := 643) (by decide) sa_a12
      by_cases c18 : x4 = 4
      · replace hf := ifp c18 hf
        exact EFj ef_h17 (eX6_inner_263 F d (fX6_inner_205 F d n) ih _ _ _ _ _ _ _ _ _ _ hx_h17 hf)
      · replace hf := ifn c18 hf
        exact EFj ef_h17 (eX6_inner_263 F d (fX6_inner_205 F d n) ih _ _ _ _ _ _ _ _ _ _ hx_h17 hf)
set_option maxHeartbeats 4000000 in
theorem eX6_inner_200 (F d : Nat) (this : Nat) (x4 : Int32) (x5 : Int32) (x7 : Int32) (s0 : Int32) (h : Hp) (hx : FXs h) {r : Hp} (hf : fX6_inner_200 F d this x4 x5 x7 s0 h = some r) : FXs r ∧ EF S_X6_inner h r := by
  unfold fX6_inner_200 at hf
  exact EFj (EF.rf (S := S_X6_inner) _) (eX6_inner_205 F d F _ _ _ _ _ _ _ hx hf)
set_option maxHeartbeats 4000000 in
theorem eX6_inner_199 (F d : Nat) (this : Nat) (x4 : Int32) (x5 : Int32) (x7 : Int32) (h : Hp) (hx : FXs h) {r : Hp} (hf : fX6_inner_199 F d this x4 x5 x7 h = some r) : FXs r ∧ EF S_X6_inner h r := by
  unfold fX6_inner_199 at hf
  exact EFj (EF.rf (S := S_X6_inner) _) (eX6_inner_200 F d _ _ _ _ _ _ hx hf)
set_option maxHeartbeats 4000000 in
theorem eX6_inner_156 (F d : Nat) (this : Nat) (x4 : Int32) (x5 : Int32) (x6 : Int32) (x7 : Int32) (h : Hp) (hx : FXs h) {r : Hp} (hf : fX6_inner_156 F d this x4 x5 x6 x7 h = some r) : FXs r ∧ EF S_X6_inner h r := by
  unfold fX6_inner_156 at hf
  by_cases c1 : (gI h 649 this) = 0
  · replace hf := ifp c1 hf
    cases hf
    exact ⟨hx, (EF.rf (S := S_X6_inner) _)⟩
  · replace hf := ifn c1 hf
    by_cases c2 : x6 = 0
    · replace hf := ifp c2 hf
      by_cases c3 : x4 = 5
      · replace hf := ifp c3 hf
        cases hf
        exact ⟨hx, (EF.rf (S := S_X6_inner) _)⟩
      · replace hf := ifn c3 hf
        by_cases c4 : x4 = 2
        · replace hf := ifp c4 hf
          replace hf := nnE hf
          obtain ⟨a6, e_a6, hf⟩ := hf
          have sa_a6 := hx 632 _ _ e_a6
          replace hf := ckE hf
          obtain ⟨c7, hf⟩ := hf
          by_cases c8 : (gA h a6 (Int32.toNatClampNeg (gI h 647 this))) ≤ 127
          · replace hf := ifp c8 hf
            exact EFj (EF.rf (S := S_X6_inner) _) (eX6_inner_199 F d _ _ _ _ _ hx hf)
          · replace hf := ifn c8 hf
            exact EFj (EF.rf (S := S_X6_inner) _) (eX6_inner_200 F d _ _ _ _ _ _ hx hf)
        · replace hf := ifn c4 hf
          exact EFj (EF.rf (S := S_X6_inner) _) (eX6_inner_199 F d _ _ _ _ _ hx hf)
    · replace hf := ifn c2 hf
      cases hf
      exact ⟨hx, (EF.rf (S := S_X6_inner) _)⟩
set_option maxHeartbeats 4000000 in
theorem eX6_inner_151 (F d : Nat) (this : Nat) (x4 : Int32) (x5 : Int32) (x6 : Int32) (x7 : Int32) (h : Hp) (hx : FXs h) {r : Hp} (hf : fX6_inner_151 F d this x4 x5 x6 x7 h = some r) : FXs r ∧ EF S_X6_inner h r := by
  unfold fX6_inner_151 at hf
  replace hf := bnE hf
  obtain ⟨h1, e_h1, hf⟩ := hf
  have hx_h1 := FX_sI hx e_h1
  have ef_h1 := EF_sI (EF.rf (S := S_X6_inner) _) e_h1 (by decide)
  exact EFj ef_h1 (eX6_inner_156 F d _ _ _ _ _ _ hx_h1 hf)
set_option maxHeartbeats 4000000 in
theorem eX6_inner_135 (F d : Nat) (this : Nat) (x4 : Int32) (x5 : Int32) (x6 : Int32) (x7 : Int32) (h : Hp) (hx : FXs h) {r : Hp} (hf : fX6_inner_135 F d this x4 x5 x6 x7 h = some r) : FXs r ∧ EF S_X6_inner h r := by
  unfold fX6_inner_135 at hf
  by_cases c1 : x4 = 2
  · replace hf := ifp c1 hf
    replace hf := caE hf
    obtain ⟨v3, h2, e_h2, hf⟩ := hf
    have q_h2 := EFc (EF.rf (S := S_X6_inner) _) (eX6_in F d hx e_h2) (by decide)
    have hx_h2 := q_h2.1
    have ef_h2 := q_h2.2
    by_cases c4 : v3 = 0
    · replace hf := ifp c4 hf
      exact EFj ef_h2 (eX6_inner_151 F d _ _ _ _ _ _ hx_h2 hf)
    · replace hf := ifn c4 hf
      exact EFj ef_h2 (eX6_inner_156 F d _ _ _ _ _ _ hx_h2 hf)
  · replace hf := ifn c1 hf
    exact EFj (EF.rf (S := S_X6_inner) _) (eX6_inner_156 F d _ _ _ _ _ _ hx hf)
set_option maxHeartbeats 4000000 in
theorem eX6_inner_123 (F d : Nat) (this : Nat) (x4 : Int32) (x5 : Int32) (x6 : Int32) (x7 : Int32) (h : Hp) (hx : FXs h) {r : Hp} (hf : fX6_inner_123 F d this x4 x5 x6 x7 h = some r) : FXs r ∧ EF S_X6_inner h r := by
  unfold fX6_inner_123 at hf
  by_cases c1 : x4 = 1
  · replace hf := ifp c1 hf
    by_cases c2 : x7 = 1
    · replace hf := ifp c2 hf
      exact EFj (EF.rf (S := S_X6_inner) _) (eX6_inner_135 F d _ _ _ _ _ _ hx hf)
    · replace hf := ifn c2 hf
      exact EFj (EF.rf (S := S_X6_inner) _) (eX6_inner_151 F d _ _ _ _ _ _ hx hf)
  · replace hf := ifn c1 hf
    exact EFj (EF.rf (S := S_X6_inner) _) (eX6_inner_135 F d _ _ _ _ _ _ hx hf)
set_option maxHeartbeats 4000000 in
theorem eX6_inner_110 (F d : Nat) (this : Nat) (x4 : Int32) (x5 : Int32) (x6 : Int32) (s0 : Int32) (h : Hp) (hx : FXs h) {r : Hp} (hf : fX6_inner_110 F d this x4 x5 x6 s0 h = some r) : FXs r ∧ EF S_X6_inner h r := by
  unfold fX6_inner_110 at hf
  by_cases c1 : x4 = 5
  · replace hf := ifp c1 hf
    by_cases c2 : s0 = 0
    · replace hf := ifp c2 hf
      exact EFj (EF.rf (S := S_X6_inner) _) (eX6_inner_123 F d _ _ _ _ _ _ hx hf)
    · replace hf := ifn c2 hf
      exact EFj (EF.rf (S := S_X6_inner) _) (eX6_inner_151 F d _ _ _ _ _ _ hx hf)
  · replace hf := ifn c1 hf
    exact EFj (EF.rf (S := S_X6_inner) _) (eX6_inner_123 F d _ _ _ _ _ _ hx hf)
set_option maxHeartbeats 4000000 in
theorem eX6_inner_109 (F d : Nat) (this : Nat) (x4 : Int32) (x5 : Int32) (x6 : Int32) (h : Hp) (hx : FXs h) {r : Hp} (hf : fX6_inner_109 F d this x4 x5 x6 h = some r) : FXs r ∧ EF S_X6_inner h r := by
  unfold fX6_inner_109 at hf
  exact EFj (EF.rf (S := S_X6_inner) _) (eX6_inner_110 F d _ _ _ _ _ _ hx hf)
set_option maxHeartbeats 4000000 in
theorem eX6_inner_89 (F d : Nat) (this : Nat) (x4 : Int32) (x5 : Int32) (x6 : Int32) (h : Hp) (hx : FXs h) {r : Hp} (hf : fX6_inner_89 F d this x4 x5 x6 h = some r) : FXs r ∧ EF S_X6_inner h r := by
  unfold fX6_inner_89 at hf
  by_cases c1 : (gI h 649 this) = 0
  · replace hf := ifp c1 hf
    exact EFj (EF.rf (S := S_X6_inner) _) (eX6_inner_109 F d _ _ _ _ _ hx hf)
  · replace hf := ifn c1 hf
    by_cases c2 : x6 = 0
    · replace hf := ifp c2 hf
      replace hf := caE hf
      obtain ⟨v4, h3, e_h3, hf⟩ := hf
      have q_h3 := EFc (EF.rf (S := S_X6_inner) _) (eX6_length F d hx e_h3) (by decide)
      have hx_h3 := q_h3.1
      have ef_h3 := q_h3.2
      exact EFj ef_h3 (eX6_inner_110 F d _ _ _ _ _ _ hx_h3 hf)
    · replace hf := ifn c2 hf
      exact EFj (EF.rf (S := S_X6_inner) _) (eX6_inner_109 F d _ _ _ _ _ hx hf)
set_option maxHeartbeats 4000000 in
theorem eX6_inner_69 (F d : Nat) (this : Nat) (x4 : Int32) (x5 : Int32) (s0 : Int32) (h : Hp) (hx : FXs h) {r : Hp} (hf : fX6_inner_69 F d this x4 x5 s0 h = some r) : FXs r ∧ EF S_X6_inner h r := by
  unfold fX6_inner_69 at hf
  by_cases c1 : (gI h 649 this) = 0
  · replace hf := ifp c1 hf
    exact EFj (EF.rf (S := S_X6_inner) _) (eX6_inner_89 F d _ _ _ _ _ hx hf)
  · replace hf := ifn c1 hf
    by_cases c2 : s0 = 0
    · replace hf := ifp c2 hf
      exact EFj (EF.rf (S := S_X6_inner) _) (eX6_inner_89 F d _ _ _ _ _ hx hf)
    · replace hf := ifn c2 hf
      replace hf := cvE hf
      obtain ⟨h3, e_h3, hf⟩ := hf
      have q_h3 := EFc (EF.rf (S := S_X6_inner) _) (eX6_enter F d hx e_h3) (by decide)
      have hx_h3 := q_h3.1
      have ef_h3 := q_h3.2
      exact EFj ef_h3 (eX6_inner_89 F d _ _ _ _ _ hx_h3 hf)
set_option maxHeartbeats 4000000 in
theorem eX6_inner_64 (F d : Nat) (this : Nat) (x4 : Int32) (x5 : Int32) (h : Hp) (hx : FXs h) {r : Hp} (hf : fX6_inner_64 F d this x4 x5 h = some r) : FXs r ∧ EF S_X6_inner h r := by
  unfold fX6_inner_64 at hf
  exact EFj (EF.rf (S := S_X6_inner) _) (eX6_inner_69 F d _ _ _ _ _ hx hf)
set_option maxHeartbeats 4000000 in
theorem eX6_inner_48 (F d : Nat) (this : Nat) (x4 : Int32) (s0 : Int32) (h : Hp) (hx : FXs h) {r : Hp} (hf : fX6_inner_48 F d this x4 s0 h = some r) : FXs r ∧ EF S_X6_inner h r := by
  unfold fX6_inner_48 at hf
  by_cases c1 : x4 = 6
  · replace hf := ifp c1 hf
    exact EFj (EF.rf (S := S_X6_inner) _) (eX6_inner_64 F d _ _ _ _ hx hf)
  · replace hf := ifn c1 hf
    by_cases c2 : x4 = 7
    · replace hf := ifp c2 hf
      exact EFj (EF.rf (S := S_X6_inner) _) (eX6_inner_64 F d _ _ _ _ hx hf)
    · replace hf := ifn c2 hf
      exact EFj (EF.rf (S := S_X6_inner) _) (eX6_inner_69 F d _ _ _ _ _ hx hf)
set_option maxHeartbeats 4000000 in
theorem eX6_inner_29 (F d : Nat) (this : Nat) (x1 : Int32) (x2 : Int32) (x3 : Int32) (x4 : Int32) (h : Hp) (hx : FXs h) {r : Hp} (hf : fX6_inner_29 F d this x1 x2 x3 x4 h = some r) : FXs r ∧ EF S_X6_inner h r := by
  unfold fX6_inner_29 at hf
  by_cases c1 : (gI h 649 this) = 0
  · replace hf := ifp c1 hf
    exact EFj (EF.rf (S := S_X6_inner) _) (eX6_inner_48 F d _ _ _ _ hx hf)
  · replace hf := ifn c1 hf
    replace hf := caE hf
    obtain ⟨v3, h2, e_h2, hf⟩ := hf
    have q_h2 := EFc (EF.rf (S := S_X6_inner) _) (eX6_adds F d hx e_h2) (by decide)
    have hx_h2 := q_h2.1
    have ef_h2 := q_h2.2
    exact EFj ef_h2 (eX6_inner_48 F d _ _ _ _ hx_h2 hf)
set_option maxHeartbeats 4000000 in
theorem eX6_inner (F d : Nat) {this : Nat} {p0 : Int32} {p1 : Int32} {p2 : Int32} {h : Hp} (hx : FXs h) {r : Hp} (hf : fX6_inner F d this p0 p1 p2 h = some r) : FXs r ∧ EF S_X6_inner h r := by
  unfold fX6_inner at hf
  replace hf := nnE hf
  obtain ⟨a2, e_a2, hf⟩ := hf
  have sa_a2 := hx 611 _ _ e_a2
  replace hf := ckE hf
  obtain ⟨c3, hf⟩ := hf
  replace hf := bnE hf
  obtain ⟨v4, e_v4, hf⟩ := hf
  replace hf := caE hf
  obtain ⟨v6, h5, e_h5, hf⟩ := hf
  have q_h5 := EFc (EF.rf (S := S_X6_inner) _) (eX6_next F d hx e_h5) (by decide)
  have hx_h5 := q_h5.1
  have ef_h5 := q_h5.2
  replace hf := nnE hf
  obtain ⟨a8, e_a8, hf⟩ := hf
  have sa_a8 := hx_h5 625 _ _ e_a8
  replace hf := ckE hf
  obtain ⟨c9, hf⟩ := hf
  by_cases c10 : v6 = (gA h5 a8 (Int32.toNatClampNeg 0))
  · replace hf := ifp c10 hf
    exact EFj ef_h5 (eX6_inner_29 F d _ _ _ _ _ _ hx_h5 hf)
  · replace hf := ifn c10 hf
    replace hf := bnE hf
    obtain ⟨h11, e_h11, hf⟩ := hf
    have hx_h11 := FX_sI hx_h5 e_h11
    have ef_h11 := EF_sI ef_h5 e_h11 (by decide)
    exact EFj ef_h11 (eX6_inner_29 F d _ _ _ _ _ _ hx_h11 hf)
abbrev S_X6_element : SS := ([623, 624, 634, 635, 647, 648, 649], [], [625, 626, 636, 637, 638, 639, 640, 643, 650, 651, 652, 653, 654], [], [])
set_option maxHeartbeats 4000000 in
theorem eX6_element_304 (F d : Nat) (this : Nat) (x4 : Int32) (x5 : Int32) (x6 : Int32) (h : Hp) (hx : FXs h) {r : Hp} (hf : fX6_element_304 F d this x4 x5 x6 h = some r) : FXs r ∧ EF S_X6_element h r := by
  unfold fX6_element_304 at hf
  by_cases c1 : (gI h 649 this) = 0
  · replace hf := ifp c1 hf
    cases hf
    exact ⟨hx, (EF.rf (S := S_X6_element) _)⟩
  · replace hf := ifn c1 hf
    replace hf := cvE hf
    obtain ⟨h2, e_h2, hf⟩ := hf
    have q_h2 := EFc (EF.rf (S := S_X6_element) _) (eX6_inner F d hx e_h2) (by decide)
    have hx_h2 := q_h2.1
    have ef_h2 := q_h2.2
    cases hf
    exact ⟨hx_h2, ef_h2⟩
set_option maxHeartbeats 4000000 in
theorem eX6_element_301 (F d : Nat) (k_12 : Nat → Int32 → Int32 → Int32 → Int32 → Hp → Option (Hp)) (hk_12 : ∀ (this : Nat) (x4 : Int32) (x5 : Int32) (x6 : Int32) (x7 : Int32) (h : Hp) (hx : FXs h) {r : Hp}, k_12 this x4 x5 x6 x7 h = some r → FXs r ∧ EF S_X6_element h r) (this : Nat) (x4 : Int32) (x5 : Int32) (x6 : Int32) (x7 : Int32) (h : Hp) (hx : FXs h) {r : Hp} (hf : fX6_element_301 F d k_12 this x4 x5 x6 x7 h = some r) : FXs r ∧ EF S_X6_element h r := by
  unfold fX6_element_301 at hf
  exact EFj (EF.rf (S := S_X6_element) _) (hk_12 _ _ _ _ _ _ hx hf)
set_option maxHeartbeats 4000000 in
theorem eX6_element_299 (F d : Nat) (k_12 : Nat → Int32 → Int32 → Int32 → Int32 → Hp → Option (Hp)) (hk_12 : ∀ (this : Nat) (x4 : Int32) (x5 : Int32) (x6 : Int32) (x7 : Int32) (h : Hp) (hx : FXs h) {r : Hp}, k_12 this x4 x5 x6 x7 h = some r → FXs r ∧ EF S_X6_element h r) (this : Nat) (x5 : Int32) (x6 : Int32) (x7 : Int32) (s0 : Int32) (h : Hp) (hx : FXs h) {r : Hp} (hf : fX6_element_299 F d k_12 this x5 x6 x7 s0 h = some r) : FXs r ∧ EF S_X6_element h r := by
  unfold fX6_element_299 at hf
  exact EFj (EF.rf (S := S_X6_element) _) (eX6_element_301 F d k_12 hk_12 _ _ _ _ _ _ hx hf)
set_option maxHeartbeats 4000000 in
theorem eX6_element_252 (F d : Nat) (k_12 : Nat → Int32 → Int32 → Int32 → Int32 → Hp → Option (Hp)) (hk_12 : ∀ (this : Nat) (x4 : Int32) (x5 : Int32) (x6 : Int32) (x7 : Int32) (h : Hp) (hx : FXs h) {r : Hp}, k_12 this x4 x5 x6 x7 h = some r → FXs r ∧ EF S_X6_element h r) (this : Nat) (x4 : Int32) (x5 : Int32) (x6 : Int32) (x7 : Int32) (x10 : Int32) (s0 : Nat) (s1 : Int32) (h : Hp) (hx : FXs h) {r : Hp} (hf : fX6_element_252 F d k_12 this x4 x5 x6 x7 x10 s0 s1 h = some r) : FXs r ∧ EF S_X6_element h r := by
  unfold fX6_element_252 at hf
  replace hf := ckE hf
  obtain ⟨c2, hf⟩ := hf
  replace hf := bnE hf
  obtain ⟨h1, e_h1, hf⟩ := hf
  have hx_h1 := FX_sI hx e_h1
  have ef_h1 := EF_sI (EF.rf (S := S_X6_element) _) e_h1 (by decide)
  replace hf := caE hf
  obtain ⟨v4, h3, e_h3, hf⟩ := hf
  have q_h3 := EFc ef_h1 (eX6_adds F d hx_h1 e_h3) (by decide)
  have hx_h3 := q_h3.1
  have ef_h3 := q_h3.2
  by_cases c5 : (gI h3 649 this) = 0
  · replace hf := ifp c5 hf
    exact EFj ef_h3 (eX6_element_299 F d k_12 hk_12 _ _ _ _ _ _ hx_h3 hf)
  · replace hf := ifn c5 hf
    replace hf := nnE hf
    obtain ⟨a7, e_a7, hf⟩ := hf
    have sa_a7 := hx_h3 620 _ _ e_a7
    replace hf := ckE hf
    obtain ⟨c8, hf⟩ := hf
    exact EFj ef_h3 (eX6_element_299 F d k_12 hk_12 _ _ _ _ _ _ hx_h3 hf)
set_option maxHeartbeats 4000000 in
theorem eX6_element_232 (F d : Nat) (k_12 : Nat → Int32 → Int32 → Int32 → Int32 → Hp → Option (Hp)) (hk_12 : ∀ (this : Nat) (x4 : Int32) (x5 : Int32) (x6 : Int32) (x7 : Int32) (h : Hp) (hx : FXs h) {r : Hp}, k_12 this x4 x5 x6 x7 h = some r → FXs r ∧ EF S_X6_element h r) (this : Nat) (x4 : Int32) (x5 : Int32) (x6 : Int32) (x7 : Int32) (x10 : Int32) (h : Hp) (hx : FXs h) {r : Hp} (hf : fX6_element_232 F d k_12 this x4 x5 x6 x7 x10 h = some r) : FXs r ∧ EF S_X6_element h r := by
  unfold fX6_element_232 at hf
  replace hf := nnE hf
  obtain ⟨a2, e_a2, hf⟩ := hf
  have sa_a2 := hx 615 _ _ e_a2
  replace hf := ckE hf
  obtain ⟨c3, hf⟩ := hf
  by_cases c4 : (gA h a2 (Int32.toNatClampNeg (gI h 623 this))) ≤ x10
  · replace hf := ifp c4 hf
    exact EFj (EF.rf (S := S_X6_element) _) (eX6_element_252 F d k_12 hk_12 _ _ _ _ _ _ _ _ _ hx hf)
  · replace hf := ifn c4 hf
    exact EFj (EF.rf (S := S_X6_element) _) (eX6_element_252 F d k_12 hk_12 _ _ _ _ _ _ _ _ _ hx hf)
set_option maxHeartbeats 4000000 in
theorem eX6_element_186 (F d : Nat) (k_12 : Nat → Int32 → Int32 → Int32 → Int32 → Hp → Option (Hp)) (hk_12 : ∀ (this : Nat) (x4 : Int32) (x5 : Int32) (x6 : Int32) (x7 : Int32) (h : Hp) (hx : FXs h) {r : Hp}, k_12 this x4 x5 x6 x7 h = some r → FXs r ∧ EF S_X6_element h r) : ∀ (n : Nat) (this : Nat) (x4 : Int32) (x5 : Int32) (x6 : Int32) (x7 : Int32) (x9 : Int32) (x10 : Int32) (h : Hp) (hx : FXs h) {r : Hp}, fX6_element_186 F d k_12 n this x4 x5 x6 x7 x9 x10 h = some r → FXs r ∧ EF S_X6_element h r := by
  intro n
  induction n with
  | zero => intro _ _ _ _ _ _ _ _ _ r hf; cases hf
  | succ n ih =>
    intro this x4 x5 x6 x7 x9 x10 h hx r hf
    unfold fX6_element_186 at hf
    replace hf := nnE hf
    obtain ⟨a2, e_a2, hf⟩ := hf
    have sa_a2 := hx 615 _ _ e_a2
    replace hf := ckE hf
    obtain ⟨c3, hf⟩ := hf
    by_cases c4 : (gA h a2 (Int32.toNatClampNeg (gI h 623 this))) ≤ x10
    · replace hf := ifp c4 hf
      exact EFj (EF.rf (S := S_X6_element) _) (eX6_element_232 F d k_12 hk_12 _ _ _ _ _ _ _ hx hf)
    · replace hf := ifn c4 hf
      replace hf := nnE hf
      obtain ⟨a6, e_a6, hf⟩ := hf
      have sa_a6 := hx 616 _ _ e_a6
      replace hf := nnE hf
      obtain ⟨a8, e_a8, hf⟩ := hf
      have sa_a8 := hx 620 _ _ e_a8
      replace hf := ckE hf
      obtain ⟨c9, hf⟩ := hf
      replace hf := ckE hf
      obtain ⟨c10, hf⟩ := hf
      by_cases c11 : ((gA h a6 (Int32.toNatClampNeg (gA h a8 (Int32.toNatClampNeg ((6 * (gI h 623 this)) + x10))))) &&& x9) = 0
      · replace hf := ifp c11 hf
        replace hf := bnE hf
        obtain ⟨v12, e_v12, hf⟩ := hf
        exact EFj (EF.rf (S := S_X6_element) _) (ih _ _ _ _ _ _ _ _ hx hf)
      · replace hf := ifn c11 hf
        exact EFj (EF.rf (S := S_X6_element) _) (eX6_element_232 F d k_12 hk_12 _ _ _ _ _ _ _ hx hf)
set_option maxHeartbeats 4000000 in
theorem eX6_element_181 (F d : Nat) (k_12 : Nat → Int32 → Int32 → Int32 → Int32 → Hp → Option (Hp)) (hk_12 : ∀ (this : Nat) (x4 : Int32) (x5 : Int32) (x6 : Int32) (x7 : Int32) (h : Hp) (hx : FXs h) {r : Hp}, k_12 this x4 x5 x6 x7 h = some r → FXs r ∧ EF S_X6_element h r) (this : Nat) (x4 : Int32) (x5 : Int32) (x6 : Int32) (x7 : Int32) (s0 : Int32) (h : Hp) (hx : FXs h) {r : Hp} (hf : fX6_element_181 F d k_12 this x4 x5 x6 x7 s0 h = some r) : FXs r ∧ EF S_X6_element h r := by
  unfold fX6_element_181 at hf
  exact EFj (EF.rf (S := S_X6_element) _) (eX6_element_186 F d k_12 hk_12 F _ _ _ _ _ _ _ _ hx hf)
set_option maxHeartbeats 4000000 in
theorem eX6_element_147 (F d : Nat) (k_12 : Nat → Int32 → Int32 → Int32 → Int32 → Hp → Option (Hp)) (hk_12 : ∀ (this : Nat) (x4 : Int32) (x5 : Int32) (x6 : Int32) (x7 : Int32) (h : Hp) (hx : FXs h) {r : Hp}, k_12 this x4 x5 x6 x7 h = some r → FXs r ∧ EF S_X6_element h r) (this : Nat) (x4 : Int32) (x5 : Int32) (x6 : Int32) (s0 : Int32) (h : Hp) (hx : FXs h) {r : Hp} (hf : fX6_element_147 F d k_12 this x4 x5 x6 s0 h = some r) : FXs r ∧ EF S_X6_element h r := by
  unfold fX6_element_147 at hf
  by_cases c1 : s0 = 0
  · replace hf := ifp c1 hf
    exact EFj (EF.rf (S := S_X6_element) _) (eX6_element_301 F d k_12 hk_12 _ _ _ _ _ _ hx hf)
  · replace hf := ifn c1 hf
    replace hf := caE hf
    obtain ⟨v3, h2, e_h2, hf⟩ := hf
    have q_h2 := EFc (EF.rf (S := S_X6_element) _) (eX6_bound F d hx e_h2) (by decide)
    have hx_h2 := q_h2.1
    have ef_h2 := q_h2.2
    by_cases c4 : v3 ≤ (gI h 647 this)
    · replace hf := ifp c4 hf
      exact EFj ef_h2 (eX6_element_181 F d k_12 hk_12 _ _ _ _ _ _ _ hx_h2 hf)
    · replace hf := ifn c4 hf
      replace hf := nnE hf
      obtain ⟨a6, e_a6, hf⟩ := hf
      have sa_a6 := hx_h2 632 _ _ e_a6
      replace hf := ckE hf
      obtain ⟨c7, hf⟩ := hf
      replace hf := caE hf
      obtain ⟨v9, h8, e_h8, hf⟩ := hf
      have q_h8 := EFc ef_h2 (eX6_bitOf F d hx_h2 e_h8) (by decide)
      have hx_h8 := q_h8.1
      have ef_h8 := q_h8.2
      exact EFj ef_h8 (eX6_element_181 F d k_12 hk_12 _ _ _ _ _ _ _ hx_h8 hf)
set_option maxHeartbeats 4000000 in
theorem eX6_element_146 (F d : Nat) (k_12 : Nat → Int32 → Int32 → Int32 → Int32 → Hp → Option (Hp)) (hk_12 : ∀ (this : Nat) (x4 : Int32) (x5 : Int32) (x6 : Int32) (x7 : Int32) (h : Hp) (hx : FXs h) {r : Hp}, k_12 this x4 x5 x6 x7 h = some r → FXs r ∧ EF S_X6_element h r) (this : Nat) (x4 : Int32) (x5 : Int32) (x6 : Int32) (h : Hp) (hx : FXs h) {r : Hp} (hf : fX6_element_146 F d k_12 this x4 x5 x6 h = some r) : FXs r ∧ EF S_X6_element h r := by
  unfold fX6_element_146 at hf
  exact EFj (EF.rf (S := S_X6_element) _) (eX6_element_147 F d k_12 hk_12 _ _ _ _ _ _ hx hf)
set_option maxHeartbeats 4000000 in
theorem eX6_element_121 (F d : Nat) (k_12 : Nat → Int32 → Int32 → Int32 → Int32 → Hp → Option (Hp)) (hk_12 : ∀ (this : Nat) (x4 : Int32) (x5 : Int32) (x6 : Int32) (x7 : Int32) (h : Hp) (hx : FXs h) {r : Hp}, k_12 this x4 x5 x6 x7 h = some r → FXs r ∧ EF S_X6_element h r) (this : Nat) (x4 : Int32) (x5 : Int32) (x6 : Int32) (h : Hp) (hx : FXs h) {r : Hp} (hf : fX6_element_121 F d k_12 this x4 x5 x6 h = some r) : FXs r ∧ EF S_X6_element h r := by
  unfold fX6_element_121 at hf
  by_cases c1 : (gI h 649 this) = 0
  · replace hf := ifp c1 hf
    exact EFj (EF.rf (S := S_X6_element) _) (eX6_element_146 F d k_12 hk_12 _ _ _ _ _ hx hf)
  · replace hf := ifn c1 hf
    replace hf := nnE hf
    obtain ⟨a3, e_a3, hf⟩ := hf
    have sa_a3 := hx 611 _ _ e_a3
    replace hf := ckE hf
    obtain ⟨c4, hf⟩ := hf
    by_cases c5 : (gA h a3 (Int32.toNatClampNeg (gI h 623 this))) = 9
    · replace hf := ifp c5 hf
      exact EFj (EF.rf (S := S_X6_element) _) (eX6_element_147 F d k_12 hk_12 _ _ _ _ _ _ hx hf)
    · replace hf := ifn c5 hf
      exact EFj (EF.rf (S := S_X6_element) _) (eX6_element_146 F d k_12 hk_12 _ _ _ _ _ hx hf)
set_option maxHeartbeats 4000000 in
theorem eX6_element_115 (F d : Nat) (k_12 : Nat → Int32 → Int32 → Int32 → Int32 → Hp → Option (Hp)) (hk_12 : ∀ (this : Nat) (x4 : Int32) (x5 : Int32) (x6 : Int32) (x7 : Int32) (h : Hp) (hx : FXs h) {r : Hp}, k_12 this x4 x5 x6 x7 h = some r → FXs r ∧ EF S_X6_element h r) (k_59 : Nat → Int32 → Int32 → Int32 → Int32 → Int32 → Hp → Option (Hp)) (hk_59 : ∀ (this : Nat) (x4 : Int32) (x5 : Int32) (x6 : Int32) (x8 : Int32) (x9 : Int32) (h : Hp) (hx : FXs h) {r : Hp}, k_59 this x4 x5 x6 x8 x9 h = some r → FXs r ∧ EF S_X6_element h r) (this : Nat) (x4 : Int32) (x5 : Int32) (x6 : Int32) (x8 : Int32) (x9 : Int32) (h : Hp) (hx : FXs h) {r : Hp} (hf : fX6_element_115 F d k_12 k_59 this x4 x5 x6 x8 x9 h = some r) : FXs r ∧ EF S_X6_element h r := by
  unfold fX6_element_115 at hf
  replace hf := bnE hf
  obtain ⟨v1, e_v1, hf⟩ := hf
  exact EFj (EF.rf (S := S_X6_element) _) (hk_59 _ _ _ _ _ _ _ hx hf)
set_option maxHeartbeats 4000000 in
theorem eX6_element_100 (F d : Nat) (k_12 : Nat → Int32 → Int32 → Int32 → Int32 → Hp → Option (Hp)) (hk_12 : ∀ (this : Nat) (x4 : Int32) (x5 : Int32) (x6 : Int32) (x7 : Int32) (h : Hp) (hx : FXs h) {r : Hp}, k_12 this x4 x5 x6 x7 h = some r → FXs r ∧ EF S_X6_element h r) (k_59 : Nat → Int32 → Int32 → Int32 → Int32 → Int32 → Hp → Option (Hp)) (hk_59 : ∀ (this : Nat) (x4 : Int32) (x5 : Int32) (x6 : Int32) (x8 : Int32) (x9 : Int32) (h : Hp) (hx : FXs h) {r : Hp}, k_59 this x4 x5 x6 x8 x9 h = some r → FXs r ∧ EF S_X6_element h r) (this : Nat) (x4 : Int32) (x5 : Int32) (x6 : Int32) (x8 : Int32) (x9 : Int32) (s0 : Nat) (s1 : Int32) (h : Hp) (hx : FXs h) {r : Hp} (hf : fX6_element_100 F d k_12 k_59 this x4 x5 x6 x8 x9 s0 s1 h = some r) : FXs r ∧ EF S_X6_element h r := by
  unfold fX6_element_100 at hf
  replace hf := ckE hf
  obtain ⟨c2, hf⟩ := hf
  replace hf := bnE hf
  obtain ⟨h1, e_h1, hf⟩ := hf
  have hx_h1 := FX_sI hx e_h1
  have ef_h1 := EF_sI (EF.rf (S := S_X6_element) _) e_h1 (by decide)
  by_cases c3 : (gI h1 649 this) = 0
  · replace hf := ifp c3 hf
    exact EFj ef_h1 (eX6_element_115 F d k_12 hk_12 k_59 hk_59 _ _ _ _ _ _ _ hx_h1 hf)
  · replace hf := ifn c3 hf
    replace hf := cvE hf
    obtain ⟨h4, e_h4, hf⟩ := hf
    have q_h4 := EFc ef_h1 (eX6_enter F d hx_h1 e_h4) (by decide)
    have hx_h4 := q_h4.1
    have ef_h4 := q_h4.2
    exact EFj ef_h4 (eX6_element_115 F d k_12 hk_12 k_59 hk_59 _ _ _ _ _ _ _ hx_h4 hf)
set_option maxHeartbeats 4000000 in
theorem eX6_element_99 (F d : Nat) (k_12 : Nat → Int32 → Int32 → Int32 → Int32 → Hp → Option (Hp)) (hk_12 : ∀ (this : Nat) (x4 : Int32) (x5 : Int32) (x6 : Int32) (x7 : Int32) (h : Hp) (hx : FXs h) {r : Hp}, k_12 this x4 x5 x6 x7 h = some r → FXs r ∧ EF S_X6_element h r) (k_59 : Nat → Int32 → Int32 → Int32 → Int32 → Int32 → Hp → Option (Hp)) (hk_59 : ∀ (this : Nat) (x4 : Int32) (x5 : Int32) (x6 : Int32) (x8 : Int32) (x9 : Int32) (h : Hp) (hx : FXs h) {r : Hp}, k_59 this x4 x5 x6 x8 x9 h = some r → FXs r ∧ EF S_X6_element h r) (this : Nat) (x4 : Int32) (x5 : Int32) (x6 : Int32) (x8 : Int32) (x9 : Int32) (s0 : Nat) (h : Hp) (hx : FXs h) {r : Hp} (hf : fX6_element_99 F d k_12 k_59 this x4 x5 x6 x8 x9 s0 h = some r) : FXs r ∧ EF S_X6_element h r := by
  unfold fX6_element_99 at hf
  exact EFj (EF.rf (S := S_X6_element) _) (eX6_element_100 F d k_12 hk_12 k_59 hk_59 _ _ _ _ _ _ _ _ _ hx hf)
set_option maxHeartbeats 4000000 in
theorem eX6_element_59 (F d : Nat) (k_12 : Nat → Int32 → Int32 → Int32 → Int32 → Hp → Option (Hp)) (hk_12 : ∀ (this : Nat) (x4 : Int32) (x5 : Int32) (x6 : Int32) (x7 : Int32) (h : Hp) (hx : FXs h) {r : Hp}, k_12 this x4 x5 x6 x7 h = some r → FXs r ∧ EF S_X6_element h r) : ∀ (n : Nat) (this : Nat) (x4 : Int32) (x5 : Int32) (x6 : Int32) (x8 : Int32) (x9 : Int32) (h : Hp) (hx : FXs h) {r : Hp}, fX6_element_59 F d k_12 n this x4 x5 x6 x8 x9 h = some r → FXs r ∧ EF S_X6_element h r := by
  intro n
  induction n with
  | zero => intro _ _ _ _ _ _ _ _ r hf; cases hf
  | succ n ih =>
    intro this x4 x5 x6 x8 x9 h hx r hf
    unfold fX6_element_59 at hf
    by_cases c1 : x9 < x8
    · replace hf := ifp c1 hf
      exact EFj (EF.rf (S := S_X6_element) _) (eX6_element_121 F d k_12 hk_12 _ _ _ _ _ hx hf)
    · replace hf := ifn c1 hf
      by_cases c2 : (gI h 649 this) = 0
      · replace hf := ifp c2 hf
        exact EFj (EF.rf (S := S_X6_element) _) (eX6_element_121 F d k_12 hk_12 _ _ _ _ _ hx hf)
      · replace hf := ifn c2 hf
        replace hf := caE hf
        obtain ⟨v4, h3, e_h3, hf⟩ := hf
        have q_h3 := EFc (EF.rf (S := S_X6_element) _) (eX6_next F d hx e_h3) (by decide)
        have hx_h3 := q_h3.1
        have ef_h3 := q_h3.2
        replace hf := nnE hf
        obtain ⟨a6, e_a6, hf⟩ := hf
        have sa_a6 := hx_h3 625 _ _ e_a6
        replace hf := ckE hf
        obtain ⟨c7, hf⟩ := hf
        by_cases c8 : v4 = (gA h3 a6 (Int32.toNatClampNeg x9))
        · replace hf := ifp c8 hf
          by_cases c9 : (gI h3 649 this) = 0
          · replace hf := ifp c9 hf
            exact EFj ef_h3 (eX6_element_99 F d k_12 hk_12 (fX6_element_59 F d k_12 n) ih _ _ _ _ _ _ _ _ hx_h3 hf)
          · replace hf := ifn c9 hf
            exact EFj ef_h3 (eX6_element_100 F d k_12 hk_12 (fX6_element_59 F d k_12 n) ih _ _ _ _ _ _ _ _ _ hx_h3 hf)
        · replace hf := ifn c8 hf
          exact EFj ef_h3 (eX6_element_99 F d k_12 hk_12 (fX6_element_59 F d k_12 n) ih _ _ _ _ _ _ _ _ hx_h3 hf)
set_option maxHeartbeats 4000000 in
theorem eX6_element_49 (F d : Nat) (k_12 : Nat → Int32 → Int32 → Int32 → Int32 → Hp → Option (Hp)) (hk_12 : ∀ (this : Nat) (x4 : Int32) (x5 : Int32) (x6 : Int32) (x7 : Int32) (h : Hp) (hx : FXs h) {r : Hp}, k_12 this x4 x5 x6 x7 h = some r → FXs r ∧ EF S_X6_element h r) (this : Nat) (x4 : Int32) (x5 : Int32) (x6 : Int32) (s0 : Int32) (h : Hp) (hx : FXs h) {r : Hp} (hf : fX6_element_49 F d k_12 this x4 x5 x6 s0 h = some r) : FXs r ∧ EF S_X6_element h r := by
  unfold fX6_element_49 at hf
  replace hf := bnE hf
  obtain ⟨v1, e_v1, hf⟩ := hf
  exact EFj (EF.rf (S := S_X6_element) _) (eX6_element_59 F d k_12 hk_12 F _ _ _ _ _ _ _ hx hf)
set_option maxHeartbeats 4000000 in
theorem eX6_element_12 (F d : Nat) : ∀ (n : Nat) (this : Nat) (x4 : Int32) (x5 : Int32) (x6 : Int32) (x7 : Int32) (h : Hp) (hx : FXs h) {r : Hp}, fX6_element_12 F d n this x4 x5 x6 x7 h = some r → FXs r ∧ EF S_X6_element h r := by
  intro n
  induction n with
  | zero => intro _ _ _ _ _ _ _ r hf; cases hf
  | succ n ih =>
    intro this x4 x5 x6 x7 h hx r hf
    unfold fX6_element_12 at hf
    by_cases c1 : x7 = 0
    · replace hf := ifp c1 hf
      exact EFj (EF.rf (S := S_X6_element) _) (eX6_element_304 F d _ _ _ _ _ hx hf)
    · replace hf := ifn c1 hf
      by_cases c2 : (gI h 649 this) = 0
      · replace hf := ifp c2 hf
        exact EFj (EF.rf (S := S_X6_element) _) (eX6_element_304 F d _ _ _ _ _ hx hf)
      · replace hf := ifn c2 hf
        replace hf := cvE hf
        obtain ⟨h3, e_h3, hf⟩ := hf
        have q_h3 := EFc (EF.rf (S := S_X6_element) _) (eX6_unwrap F d hx e_h3) (by decide)
        have hx_h3 := q_h3.1
        have ef_h3 := q_h3.2
        replace hf := nnE hf
        obtain ⟨a6, e_a6, hf⟩ := hf
        have sa_a6 := hx_h3 611 _ _ e_a6
        replace hf := ckE hf
        obtain ⟨c7, hf⟩ := hf
        by_cases c8 : (gA h3 a6 (Int32.toNatClampNeg (gI h3 623 this))) = 9
        · replace hf := ifp c8 hf
          exact EFj ef_h3 (eX6_element_49 F d (fX6_element_12 F d n) ih _ _ _ _ _ _ hx_h3 hf)
        · replace hf := ifn c8 hf
          exact EFj ef_h3 (eX6_element_49 F d (fX6_element_12 F d n) ih _ _ _ _ _ _ hx_h3 hf)
set_option maxHeartbeats 4000000 in
theorem eX6_element (F d : Nat) {this : Nat} {p0 : Int32} {p1 : Int32} {p2 : Int32} {h : Hp} (hx : FXs h) {r : Hp} (hf : fX6_element F d this p0 p1 p2 h = some r) : FXs r ∧ EF S_X6_element h r := by
  unfold fX6_element at hf
  exact EFj (EF.rf (S := S_X6_element) _) (eX6_element_12 F d F _ _ _ _ _ _ hx hf)
abbrev S_X6_align : SS := ([647], [], [], [], [])
set_option maxHeartbeats 4000000 in
theorem eX6_align (F d : Nat) {this : Nat} {h : Hp} (hx : FXs h) {r : Hp} (hf : fX6_align F d this h = some r) : FXs r ∧ EF S_X6_align h r := by
  unfold fX6_align at hf
  replace hf := bnE hf
  obtain ⟨h1, e_h1, hf⟩ := hf
  have hx_h1 := FX_sI hx e_h1
  have ef_h1 := EF_sI (EF.rf (S := S_X6_align) _) e_h1 (by decide)
  cases hf
  exact ⟨hx_h1, ef_h1⟩
abbrev S_X6_width : SS := ([], [], [], [], [])
set_option maxHeartbeats 4000000 in
theorem eX6_width_2 (F d : Nat) : ∀ (n : Nat) (x0 : Int32) (x1 : Int32) (h : Hp) (hx : FXs h) {r : Int32 × Hp}, fX6_width_2 F d n x0 x1 h = some r → FXs r.2 ∧ EF S_X6_width h r.2 := by
  intro n
  induction n with
  | zero => intro _ _ _ _ r hf; cases hf
  | succ n ih =>
    intro x0 x1 h hx r hf
    unfold fX6_width_2 at hf
    by_cases c1 : (x0 >>> (x1 &&& 31)) ≤ 0
    · replace hf := ifp c1 hf
      cases hf
      exact ⟨hx, (EF.rf (S := S_X6_width) _)⟩
    · replace hf := ifn c1 hf
      replace hf := bnE hf
      obtain ⟨v2, e_v2, hf⟩ := hf
      exact EFj (EF.rf (S := S_X6_width) _) (ih _ _ _ hx hf)
set_option maxHeartbeats 4000000 in
theorem eX6_width (F d : Nat) {p0 : Int32} {h : Hp} (hx : FXs h) {r : Int32 × Hp} (hf : fX6_width F d p0 h = some r) : FXs r.2 ∧ EF S_X6_width h r.2 := by
  unfold fX6_width at hf
  exact EFj (EF.rf (S := S_X6_width) _) (eX6_width_2 F d F _ _ _ hx hf)
abbrev S_X6_bit : SS := ([647, 649], [], [], [], [])
set_option maxHeartbeats 4000000 in
theorem eX6_bit_19 (F d : Nat) (this : Nat) (h : Hp) (hx : FXs h) {r : Int32 × Hp} (hf : fX6_bit_19 F d this h = some r) : FXs r.2 ∧ EF S_X6_bit h r.2 := by
  unfold fX6_bit_19 at hf
  replace hf := bnE hf
  obtain ⟨h1, e_h1, hf⟩ := hf
  have hx_h1 := FX_sI hx e_h1
  have ef_h1 := EF_sI (EF.rf (S := S_X6_bit) _) e_h1 (by decide)
  by_cases c2 : (gI h1 649 this) = 0
  · replace hf := ifp c2 hf
    cases hf
    exact ⟨hx_h1, ef_h1⟩
  · replace hf := ifn c2 hf
    replace hf := nnE hf
    obtain ⟨a4, e_a4, hf⟩ := hf
    have sa_a4 := hx_h1 632 _ _ e_a4
    replace hf := ckE hf
    obtain ⟨c5, hf⟩ := hf
    replace hf := bnE hf
    obtain ⟨v6, e_v6, hf⟩ := hf
    cases hf
    exact ⟨hx_h1, ef_h1⟩
set_option maxHeartbeats 4000000 in
theorem eX6_bit (F d : Nat) {this : Nat} {h : Hp} (hx : FXs h) {r : Int32 × Hp} (hf : fX6_bit F d this h = some r) : FXs r.2 ∧ EF S_X6_bit h r.2 := by
  unfold fX6_bit at hf
  by_cases c1 : (gI h 647 this) < (8 * (gI h 628 this))
  · replace hf := ifp c1 hf
    exact EFj (EF.rf (S := S_X6_bit) _) (eX6_bit_19 F d _ _ hx hf)
  · replace hf := ifn c1 hf
    replace hf := bnE hf
    obtain ⟨h2, e_h2, hf⟩ := hf
    have hx_h2 := FX_sI hx e_h2
    have ef_h2 := EF_sI (EF.rf (S := S_X6_bit) _) e_h2 (by decide)
    exact EFj ef_h2 (eX6_bit_19 F d _ _ hx_h2 hf)
abbrev S_X6_some : SS := ([647, 649], [], [], [], [])
set_option maxHeartbeats 4000000 in
theorem eX6_some_4 (F d : Nat) : ∀ (n : Nat) (this : Nat) (x1 : Int32) (x2 : Int32) (x3 : Int32) (h : Hp) (hx : FXs h) {r : Int32 × Hp}, fX6_some_4 F d n this x1 x2 x3 h = some r → FXs r.2 ∧ EF S_X6_some h r.2 := by
  intro n
  induction n with
  | zero => intro _ _ _ _ _ _ r hf; cases hf
  | succ n ih =>
    intro this x1 x2 x3 h hx r hf
    unfold fX6_some_4 at hf
    by_cases c1 : x1 ≤ x3
    · replace hf := ifp c1 hf
      cases hf
      exact ⟨hx, (EF.rf (S := S_X6_some) _)⟩
    · replace hf := ifn c1 hf
      by_cases c2 : (gI h 649 this) = 0
      · replace hf := ifp c2 hf
        cases hf
        exact ⟨hx, (EF.rf (S := S_X6_some) _)⟩
      · replace hf := ifn c2 hf
        replace hf := caE hf
        obtain ⟨v4, h3, e_h3, hf⟩ := hf
        have q_h3 := EFc (EF.rf (S := S_X6_some) _) (eX6_bit F d hx e_h3) (by decide)
        have hx_h3 := q_h3.1
        have ef_h3 := q_h3.2
        replace hf := bnE hf
        obtain ⟨v5, e_v5, hf⟩ := hf
        replace hf := bnE hf
        obtain ⟨v6, e_v6, hf⟩ := hf
        exact EFj ef_h3 (ih _ _ _ _ _ hx_h3 hf)
set_option maxHeartbeats 4000000 in
theorem eX6_some (F d : Nat) {this : Nat} {p0 : Int32} {h : Hp} (hx : FXs h) {r : Int32 × Hp} (hf : fX6_some F d this p0 h = some r) : FXs r.2 ∧ EF S_X6_some h r.2 := by
  unfold fX6_some at hf
  exact EFj (EF.rf (S := S_X6_some) _) (eX6_some_4 F d F _ _ _ _ _ hx hf)
abbrev S_X6_ranging : SS := ([647, 649], [], [], [], [])
set_option maxHeartbeats 4000000 in
theorem eX6_ranging_60 (F d : Nat) (x1 : Int32) (x4 : Int32) (h : Hp) (hx : FXs h) {r : Int32 × Hp} (hf : fX6_ranging_60 F d x1 x4 h = some r) : FXs r.2 ∧ EF S_X6_ranging h r.2 := by
  unfold fX6_ranging_60 at hf
  cases hf
  exact ⟨hx, (EF.rf (S := S_X6_ranging) _)⟩
set_option maxHeartbeats 4000000 in
theorem eX6_ranging_44 (F d : Nat) (this : Nat) (x1 : Int32) (x3 : Int32) (s0 : Nat) (s1 : Int32) (h : Hp) (hx : FXs h) {r : Int32 × Hp} (hf : fX6_ranging_44 F d this x1 x3 s0 s1 h = some r) : FXs r.2 ∧ EF S_X6_ranging h r.2 := by
  unfold fX6_ranging_44 at hf
  replace hf := caE hf
  obtain ⟨v2, h1, e_h1, hf⟩ := hf
  have q_h1 := EFc (EF.rf (S := S_X6_ranging) _) (eX6_some F d hx e_h1) (by decide)
  have hx_h1 := q_h1.1
  have ef_h1 := q_h1.2
  by_cases c3 : v2 ≤ x3
  · replace hf := ifp c3 hf
    exact EFj ef_h1 (eX6_ranging_60 F d _ _ _ hx_h1 hf)
  · replace hf := ifn c3 hf
    replace hf := bnE hf
    obtain ⟨h4, e_h4, hf⟩ := hf
    have hx_h4 := FX_sI hx_h1 e_h4
    have ef_h4 := EF_sI ef_h1 e_h4 (by decide)
    exact EFj ef_h4 (eX6_ranging_60 F d _ _ _ hx_h4 hf)
set_option maxHeartbeats 4000000 in
theorem eX6_ranging_15 (F d : Nat) (this : Nat) (x1 : Int32) (x3 : Int32) (h : Hp) (hx : FXs h) {r : Int32 × Hp} (hf : fX6_ranging_15 F d this x1 x3 h = some r) : FXs r.2 ∧ EF S_X6_ranging h r.2 := by
  unfold fX6_ranging_15 at hf
  by_cases c1 : 255 ≤ x3
  · replace hf := ifp c1 hf
    by_cases c2 : x3 = 255
    · replace hf := ifp c2 hf
      exact EFj (EF.rf (S := S_X6_ranging) _) (eX6_ranging_44 F d _ _ _ _ _ _ hx hf)
    · replace hf := ifn c2 hf
      exact EFj (EF.rf (S := S_X6_ranging) _) (eX6_ranging_44 F d _ _ _ _ _ _ hx hf)
  · replace hf := ifn c1 hf
    replace hf := caE hf
    obtain ⟨v4, h3, e_h3, hf⟩ := hf
    have q_h3 := EFc (EF.rf (S := S_X6_ranging) _) (eX6_width F d hx e_h3) (by decide)
    have hx_h3 := q_h3.1
    have ef_h3 := q_h3.2
    exact EFj ef_h3 (eX6_ranging_44 F d _ _ _ _ _ _ hx_h3 hf)
set_option maxHeartbeats 4000000 in
theorem eX6_ranging (F d : Nat) {this : Nat} {p0 : Int32} {p1 : Int32} {h : Hp} (hx : FXs h) {r : Int32 × Hp} (hf : fX6_ranging F d this p0 p1 h = some r) : FXs r.2 ∧ EF S_X6_ranging h r.2 := by
  unfold fX6_ranging at hf
  replace hf := bnE hf
  obtain ⟨v1, e_v1, hf⟩ := hf
  by_cases c2 : v1 ≤ 254
  · replace hf := ifp c2 hf
    exact EFj (EF.rf (S := S_X6_ranging) _) (eX6_ranging_15 F d _ _ _ _ hx hf)
  · replace hf := ifn c2 hf
    replace hf := cvE hf
    obtain ⟨h3, e_h3, hf⟩ := hf
    have q_h3 := EFc (EF.rf (S := S_X6_ranging) _) (eX6_align F d hx e_h3) (by decide)
    have hx_h3 := q_h3.1
    have ef_h3 := q_h3.2
    exact EFj ef_h3 (eX6_ranging_15 F d _ _ _ _ hx_h3 hf)
abbrev S_X6_rank : SS := ([], [], [], [], [])
set_option maxHeartbeats 4000000 in
theorem eX6_rank_83 (F d : Nat) (k_26 : Nat → Int32 → Int32 → Int32 → Int32 → Hp → Option (Int32 × Hp)) (hk_26 : ∀ (this : Nat) (x1 : Int32) (x3 : Int32) (x4 : Int32) (x5 : Int32) (h : Hp) (hx : FXs h) {r : Int32 × Hp}, k_26 this x1 x3 x4 x5 h = some r → FXs r.2 ∧ EF S_X6_rank h r.2) (this : Nat) (x1 : Int32) (x4 : Int32) (x5 : Int32) (s0 : Int32) (s1 : Int32) (h : Hp) (hx : FXs h) {r : Int32 × Hp} (hf : fX6_rank_83 F d k_26 this x1 x4 x5 s0 s1 h = some r) : FXs r.2 ∧ EF S_X6_rank h r.2 := by
  unfold fX6_rank_83 at hf
  replace hf := bnE hf
  obtain ⟨v1, e_v1, hf⟩ := hf
  replace hf := bnE hf
  obtain ⟨v2, e_v2, hf⟩ := hf
  exact EFj (EF.rf (S := S_X6_rank) _) (hk_26 _ _ _ _ _ _ hx hf)
set_option maxHeartbeats 4000000 in
theorem eX6_rank_26 (F d : Nat) : ∀ (n : Nat) (this : Nat) (x1 : Int32) (x3 : Int32) (x4 : Int32) (x5 : Int32) (h : Hp) (hx : FXs h) {r : Int32 × Hp}, fX6_rank_26 F d n this x1 x3 x4 x5 h = some r → FXs r.2 ∧ EF S_X6_rank h r.2 := by
  intro n
  induction n with
  | zero => intro _ _ _ _ _ _ _ r hf; cases hf
  | succ n ih =>
    intro this x1 x3 x4 x5 h hx r hf
    unfold fX6_rank_26 at hf
    replace hf := nnE hf
    obtain ⟨a2, e_a2, hf⟩ := hf
    have sa_a2 := hx 615 _ _ e_a2
    replace hf := ckE hf
    obtain ⟨c3, hf⟩ := hf
    by_cases c4 : ((6 * x1) + (gA h a2 (Int32.toNatClampNeg x1))) ≤ x5
    · replace hf := ifp c4 hf
      cases hf
      exact ⟨hx, (EF.rf (S := S_X6_rank) _)⟩
    · replace hf := ifn c4 hf
      replace hf := nnE hf
      obtain ⟨a6, e_a6, hf⟩ := hf
      have sa_a6 := hx 616 _ _ e_a6
      replace hf := nnE hf
      obtain ⟨a8, e_a8, hf⟩ := hf
      have sa_a8 := hx 620 _ _ e_a8
      replace hf := ckE hf
      obtain ⟨c9, hf⟩ := hf
      replace hf := ckE hf
      obtain ⟨c10, hf⟩ := hf
      replace hf := nnE hf
      obtain ⟨a12, e_a12, hf⟩ := hf
      have sa_a12 := hx 616 _ _ e_a12
      replace hf := nnE hf
      obtain ⟨a14, e_a14, hf⟩ := hf
      have sa_a14 := hx 620 _ _ e_a14
      replace hf := ckE hf
      obtain ⟨c15, hf⟩ := hf
      replace hf := ckE hf
      obtain ⟨c16, hf⟩ := hf
      by_cases c17 : (x4 &&& (-x4)) ≤ ((gA h a6 (Int32.toNatClampNeg (gA h a8 (Int32.toNatClampNeg x5)))) &&& (-(gA h a12 (Int32.toNatClampNeg (gA h a14 (Int32.toNatClampNeg x5))))))
      · replace hf := ifp c17 hf
        exact EFj (EF.rf (S := S_X6_rank) _) (eX6_rank_83 F d (fX6_rank_26 F d n) ih _ _ _ _ _ _ _ hx hf)
      · replace hf := ifn c17 hf
        exact EFj (EF.rf (S := S_X6_rank) _) (eX6_rank_83 F d (fX6_rank_26 F d n) ih _ _ _ _ _ _ _ hx hf)
set_option maxHeartbeats 4000000 in
theorem eX6_rank (F d : Nat) {this : Nat} {p0 : Int32} {p1 : Int32} {h : Hp} (hx : FXs h) {r : Int32 × Hp} (hf : fX6_rank F d this p0 p1 h = some r) : FXs r.2 ∧ EF S_X6_rank h r.2 := by
  unfold fX6_rank at hf
  replace hf := nnE hf
  obtain ⟨a2, e_a2, hf⟩ := hf
  have sa_a2 := hx 616 _ _ e_a2
  replace hf := nnE hf
  obtain ⟨a4, e_a4, hf⟩ := hf
  have sa_a4 := hx 620 _ _ e_a4
  replace hf := ckE hf
  obtain ⟨c5, hf⟩ := hf
  replace hf := ckE hf
  obtain ⟨c6, hf⟩ := hf
  replace hf := bnE hf
  obtain ⟨v7, e_v7, hf⟩ := hf
  replace hf := bnE hf
  obtain ⟨v8, e_v8, hf⟩ := hf
  exact EFj (EF.rf (S := S_X6_rank) _) (eX6_rank_26 F d F _ _ _ _ _ _ hx hf)
abbrev S_X6_counted : SS := ([647, 649], [], [], [], [])
set_option maxHeartbeats 4000000 in
theorem eX6_counted (F d : Nat) {this : Nat} {p0 : Int32} {h : Hp} (hx : FXs h) {r : Int32 × Hp} (hf : fX6_counted F d this p0 h = some r) : FXs r.2 ∧ EF S_X6_counted h r.2 := by
  unfold fX6_counted at hf
  replace hf := nnE hf
  obtain ⟨a2, e_a2, hf⟩ := hf
  have sa_a2 := hx 618 _ _ e_a2
  replace hf := ckE hf
  obtain ⟨c3, hf⟩ := hf
  by_cases c4 : (gA h a2 (Int32.toNatClampNeg p0)) = 0
  · replace hf := ifp c4 hf
    replace hf := cvE hf
    obtain ⟨h5, e_h5, hf⟩ := hf
    have q_h5 := EFc (EF.rf (S := S_X6_counted) _) (eX6_align F d hx e_h5) (by decide)
    have hx_h5 := q_h5.1
    have ef_h5 := q_h5.2
    replace hf := caE hf
    obtain ⟨v8, h7, e_h7, hf⟩ := hf
    have q_h7 := EFc ef_h5 (eX6_some F d hx_h5 e_h7) (by decide)
    have hx_h7 := q_h7.1
    have ef_h7 := q_h7.2
    by_cases c9 : v8 ≤ 127
    · replace hf := ifp c9 hf
      cases hf
      exact ⟨hx_h7, ef_h7⟩
    · replace hf := ifn c9 hf
      replace hf := bnE hf
      obtain ⟨h10, e_h10, hf⟩ := hf
      have hx_h10 := FX_sI hx_h7 e_h10
      have ef_h10 := EF_sI ef_h7 e_h10 (by decide)
      cases hf
      exact ⟨hx_h10, ef_h10⟩
  · replace hf := ifn c4 hf
    replace hf := nnE hf
    obtain ⟨a12, e_a12, hf⟩ := hf
    have sa_a12 := hx 612 _ _ e_a12
    replace hf := ckE hf
    obtain ⟨c13, hf⟩ := hf
    replace hf := nnE hf
    obtain ⟨a15, e_a15, hf⟩ := hf
    have sa_a15 := hx 613 _ _ e_a15
    replace hf := ckE hf
    obtain ⟨c16, hf⟩ := hf
    replace hf := caE hf
    obtain ⟨v18, h17, e_h17, hf⟩ := hf
    have q_h17 := EFc (EF.rf (S := S_X6_counted) _) (eX6_ranging F d hx e_h17) (by decide)
    have hx_h17 := q_h17.1
    have ef_h17 := q_h17.2
    cases hf
    exact ⟨hx_h17, ef_h17⟩
abbrev S_X6_want : SS := ([623, 624, 634, 635, 647, 648, 649], [], [625, 626, 636, 637, 638, 639, 640, 643, 650, 651, 652, 653, 654], [], [])
set_option maxHeartbeats 4000000 in
theorem eX6_want_461 (F d : Nat) (this : Nat) (x7 : Int32) (x8 : Int32) (h : Hp) (hx : FXs h) {r : Hp} (hf : fX6_want_461 F d this x7 x8 h = some r) : FXs r ∧ EF S_X6_want h r := by
  unfold fX6_want_461 at hf
  replace hf := nnE hf
  obtain ⟨a2, e_a2, hf⟩ := hf
  have sa_a2 := hx 637 _ _ e_a2
  replace hf := nnE hf
  obtain ⟨a4, e_a4, hf⟩ := hf
  have sa_a4 := hx 611 _ _ e_a4
  replace hf := ckE hf
  obtain ⟨c5, hf⟩ := hf
  by_cases c6 : (gA h a4 (Int32.toNatClampNeg x8)) = 7
  · replace hf := ifp c6 hf
    replace hf := caE hf
    obtain ⟨v10, h9, e_h9, hf⟩ := hf
    have q_h9 := EFc (EF.rf (S := S_X6_want) _) (eX6_counted F d hx e_h9) (by decide)
    have hx_h9 := q_h9.1
    have ef_h9 := q_h9.2
    replace hf := ckE hf
    obtain ⟨c11, hf⟩ := hf
    replace hf := bnE hf
    obtain ⟨h12, e_h12, hf⟩ := hf
    have hx_h12 := FX_sA hx_h9 e_h12
    have ef_h12 := EF_sA ef_h9 e_h12 (f := 637) (by decide) sa_a2
    cases hf
    exact ⟨hx_h12, ef_h12⟩
  · replace hf := ifn c6 hf
    replace hf := ckE hf
    obtain ⟨c7, hf⟩ := hf
    replace hf := bnE hf
    obtain ⟨h8, e_h8, hf⟩ := hf
    have hx_h8 := FX_sA hx e_h8
    have ef_h8 := EF_sA (EF.rf (S := S_X6_want) _) e_h8 (f := 637) (by decide) sa_a2
    cases hf
    exact ⟨hx_h8, ef_h8⟩
set_option maxHeartbeats 4000000 in
theorem eX6_want_453 (F d : Nat) (k_382 : Nat → Int32 → Int32 → Int32 → Hp → Option (Hp)) (hk_382 : ∀ (this : Nat) (x7 : Int32) (x8 : Int32) (x9 : Int32) (h : Hp) (hx : FXs h) {r : Hp}, k_382 this x7 x8 x9 h = some r → FXs r ∧ EF S_X6_want h r) (this : Nat) (x7 : Int32) (x8 : Int32) (x9 : Int32) (s0 : Nat) (s1 : Int32) (s2 : Int32) (s3 : Int32) (h : Hp) (hx : FXs h) (sa_s0 : saF 653 s0 = true) {r : Hp} (hf : fX6_want_453 F d k_382 this x7 x8 x9 s0 s1 s2 s3 h = some r) : FXs r ∧ EF S_X6_want h r := by
  unfold fX6_want_453 at hf
  replace hf := ckE hf
  obtain ⟨c1, hf⟩ := hf
  replace hf := bnE hf
  obtain ⟨h2, e_h2, hf⟩ := hf
  have hx_h2 := FX_sA hx e_h2
  have ef_h2 := EF_sA (EF.rf (S := S_X6_want) _) e_h2 (f := 653) (by decide) sa_s0
  replace hf := bnE hf
  obtain ⟨v3, e_v3, hf⟩ := hf
  exact EFj ef_h2 (hk_382 _ _ _ _ _ hx_h2 hf)
set_option maxHeartbeats 4000000 in
theorem eX6_want_382 (F d : Nat) : ∀ (n : Nat) (this : Nat) (x7 : Int32) (x8 : Int32) (x9 : Int32) (h : Hp) (hx : FXs h) {r : Hp}, fX6_want_382 F d n this x7 x8 x9 h = some r → FXs r ∧ EF S_X6_want h r := by
  intro n
  induction n with
  | zero => intro _ _ _ _ _ _ r hf; cases hf
  | succ n ih =>
    intro this x7 x8 x9 h hx r hf
    unfold fX6_want_382 at hf
    replace hf := nnE hf
    obtain ⟨a2, e_a2, hf⟩ := hf
    have sa_a2 := hx 615 _ _ e_a2
    replace hf := ckE hf
    obtain ⟨c3, hf⟩ := hf
    by_cases c4 : ((6 * x8) + (gA h a2 (Int32.toNatClampNeg x8))) ≤ x9
    · replace hf := ifp c4 hf
      exact EFj (EF.rf (S := S_X6_want) _) (eX6_want_461 F d _ _ _ _ hx hf)
    · replace hf := ifn c4 hf
      replace hf := nnE hf
      obtain ⟨a6, e_a6, hf⟩ := hf
      have sa_a6 := hx 611 _ _ e_a6
      replace hf := ckE hf
      obtain ⟨c7, hf⟩ := hf
      by_cases c8 : (gA h a6 (Int32.toNatClampNeg x8)) = 6
      · replace hf := ifp c8 hf
        replace hf := nnE hf
        obtain ⟨a10, e_a10, hf⟩ := hf
        have sa_a10 := hx 653 _ _ e_a10
        replace hf := nnE hf
        obtain ⟨a12, e_a12, hf⟩ := hf
        have sa_a12 := hx 653 _ _ e_a12
        replace hf := ckE hf
        obtain ⟨c13, hf⟩ := hf
        replace hf := nnE hf
        obtain ⟨a15, e_a15, hf⟩ := hf
        have sa_a15 := hx 621 _ _ e_a15
        replace hf := ckE hf
        obtain ⟨c16, hf⟩ := hf
        by_cases c17 : (gA h a15 (Int32.toNatClampNeg x9)) = 0
        · replace hf := ifp c17 hf
          exact EFj (EF.rf (S := S_X6_want) _) (eX6_want_453 F d (fX6_want_382 F d n) ih _ _ _ _ _ _ _ _ _ hx sa_a10 hf)
        · replace hf := ifn c17 hf
          replace hf := caE hf
          obtain ⟨v19, h18, e_h18, hf⟩ := hf
          have q_h18 := EFc (EF.rf (S := S_X6_want) _) (eX6_bit F d hx e_h18) (by decide)
          have hx_h18 := q_h18.1
          have ef_h18 := q_h18.2
          exact EFj ef_h18 (eX6_want_453 F d (fX6_want_382 F d n) ih _ _ _ _ _ _ _ _ _ hx_h18 sa_a10 hf)
      · replace hf := ifn c8 hf
        exact EFj (EF.rf (S := S_X6_want) _) (eX6_want_461 F d _ _ _ _ hx hf)
set_option maxHeartbeats 4000000 in
theorem eX6_want_367 (F d : Nat) (this : Nat) (x7 : Int32) (x8 : Int32) (h : Hp) (hx : FXs h) {r : Hp} (hf : fX6_want_367 F d this x7 x8 h = some r) : FXs r ∧ EF S_X6_want h r := by
  unfold fX6_want_367 at hf
  replace hf := cvE hf
  obtain ⟨h1, e_h1, hf⟩ := hf
  have q_h1 := EFc (EF.rf (S := S_X6_want) _) (eX6_frame F d hx e_h1) (by decide)
  have hx_h1 := q_h1.1
  have ef_h1 := q_h1.2
  replace hf := bnE hf
  obtain ⟨v3, e_v3, hf⟩ := hf
  exact EFj ef_h1 (eX6_want_382 F d F _ _ _ _ _ hx_h1 hf)
set_option maxHeartbeats 4000000 in
theorem eX6_want_578 (F d : Nat) (this : Nat) (x7 : Int32) (x9 : Int32) (h : Hp) (hx : FXs h) {r : Hp} (hf : fX6_want_578 F d this x7 x9 h = some r) : FXs r ∧ EF S_X6_want h r := by
  unfold fX6_want_578 at hf
  replace hf := nnE hf
  obtain ⟨a2, e_a2, hf⟩ := hf
  have sa_a2 := hx 637 _ _ e_a2
  by_cases c3 : (gI h 649 this) = 0
  · replace hf := ifp c3 hf
    replace hf := ckE hf
    obtain ⟨c4, hf⟩ := hf
    replace hf := bnE hf
    obtain ⟨h5, e_h5, hf⟩ := hf
    have hx_h5 := FX_sA hx e_h5
    have ef_h5 := EF_sA (EF.rf (S := S_X6_want) _) e_h5 (f := 637) (by decide) sa_a2
    cases hf
    exact ⟨hx_h5, ef_h5⟩
  · replace hf := ifn c3 hf
    replace hf := caE hf
    obtain ⟨v7, h6, e_h6, hf⟩ := hf
    have q_h6 := EFc (EF.rf (S := S_X6_want) _) (eX6_some F d hx e_h6) (by decide)
    have hx_h6 := q_h6.1
    have ef_h6 := q_h6.2
    replace hf := ckE hf
    obtain ⟨c8, hf⟩ := hf
    replace hf := bnE hf
    obtain ⟨h9, e_h9, hf⟩ := hf
    have hx_h9 := FX_sA hx_h6 e_h9
    have ef_h9 := EF_sA ef_h6 e_h9 (f := 637) (by decide) sa_a2
    cases hf
    exact ⟨hx_h9, ef_h9⟩
set_option maxHeartbeats 4000000 in
theorem eX6_want_573 (F d : Nat) (this : Nat) (x7 : Int32) (x9 : Int32) (h : Hp) (hx : FXs h) {r : Hp} (hf : fX6_want_573 F d this x7 x9 h = some r) : FXs r ∧ EF S_X6_want h r := by
  unfold fX6_want_573 at hf
  replace hf := bnE hf
  obtain ⟨h1, e_h1, hf⟩ := hf
  have hx_h1 := FX_sI hx e_h1
  have ef_h1 := EF_sI (EF.rf (S := S_X6_want) _) e_h1 (by decide)
  exact EFj ef_h1 (eX6_want_578 F d _ _ _ _ hx_h1 hf)
set_option maxHeartbeats 4000000 in
theorem eX6_want_336 (F d : Nat) (s0 : Nat) (s1 : Int32) (s2 : Int32) (h : Hp) (hx : FXs h) {r : Hp} (hf : fX6_want_336 F d s0 s1 s2 h = some r) : FXs r ∧ EF S_X6_want h r := by
  unfold fX6_want_336 at hf
  replace hf := bnE hf
  obtain ⟨h1, e_h1, hf⟩ := hf
  have hx_h1 := FX_sI hx e_h1
  have ef_h1 := EF_sI (EF.rf (S := S_X6_want) _) e_h1 (by decide)
  cases hf
  exact ⟨hx_h1, ef_h1⟩
set_option maxHeartbeats 4000000 in
theorem eX6_want_313 (F d : Nat) (this : Nat) (x7 : Int32) (h : Hp) (hx : FXs h) {r : Hp} (hf : fX6_want_313 F d this x7 h = some r) : FXs r ∧ EF S_X6_want h r := by
  unfold fX6_want_313 at hf
  by_cases c1 : (gI h 649 this) = 0
  · replace hf := ifp c1 hf
    exact EFj (EF.rf (S := S_X6_want) _) (eX6_want_336 F d _ _ _ _ hx hf)
  · replace hf := ifn c1 hf
    replace hf := nnE hf
    obtain ⟨a3, e_a3, hf⟩ := hf
    have sa_a3 := hx 637 _ _ e_a3
    replace hf := ckE hf
    obtain ⟨c4, hf⟩ := hf
    exact EFj (EF.rf (S := S_X6_want) _) (eX6_want_336 F d _ _ _ _ hx hf)
set_option maxHeartbeats 4000000 in
theorem eX6_want_270 (F d : Nat) : ∀ (n : Nat) (this : Nat) (x7 : Int32) (x9 : Int32) (h : Hp) (hx : FXs h) {r : Hp}, fX6_want_270 F d n this x7 x9 h = some r → FXs r ∧ EF S_X6_want h r := by
  intro n
  induction n with
  | zero => intro _ _ _ _ _ r hf; cases hf
  | succ n ih =>
    intro this x7 x9 h hx r hf
    unfold fX6_want_270 at hf
    replace hf := nnE hf
    obtain ⟨a2, e_a2, hf⟩ := hf
    have sa_a2 := hx 637 _ _ e_a2
    replace hf := ckE hf
    obtain ⟨c3, hf⟩ := hf
    by_cases c4 : (gA h a2 (Int32.toNatClampNeg x7)) ≤ x9
    · replace hf := ifp c4 hf
      exact EFj (EF.rf (S := S_X6_want) _) (eX6_want_313 F d _ _ _ hx hf)
    · replace hf := ifn c4 hf
      by_cases c5 : (gI h 649 this) = 0
      · replace hf := ifp c5 hf
        exact EFj (EF.rf (S := S_X6_want) _) (eX6_want_313 F d _ _ _ hx hf)
      · replace hf := ifn c5 hf
        replace hf := nnE hf
        obtain ⟨a7, e_a7, hf⟩ := hf
        have sa_a7 := hx 643 _ _ e_a7
        replace hf := caE hf
        obtain ⟨v9, h8, e_h8, hf⟩ := hf
        have q_h8 := EFc (EF.rf (S := S_X6_want) _) (eX6_some F d hx e_h8) (by decide)
        have hx_h8 := q_h8.1
        have ef_h8 := q_h8.2
        replace hf := ckE hf
        obtain ⟨c10, hf⟩ := hf
        replace hf := bnE hf
        obtain ⟨h11, e_h11, hf⟩ := hf
        have hx_h11 := FX_sA hx_h8 e_h11
        have ef_h11 := EF_sA ef_h8 e_h11 (f := 643) (by decide) sa_a7
        replace hf := bnE hf
        obtain ⟨v12, e_v12, hf⟩ := hf
        exact EFj ef_h11 (ih _ _ _ _ hx_h11 hf)
set_option maxHeartbeats 4000000 in
theorem eX6_want_267 (F d : Nat) (this : Nat) (x7 : Int32) (h : Hp) (hx : FXs h) {r : Hp} (hf : fX6_want_267 F d this x7 h = some r) : FXs r ∧ EF S_X6_want h r := by
  unfold fX6_want_267 at hf
  exact EFj (EF.rf (S := S_X6_want) _) (eX6_want_270 F d F _ _ _ _ hx hf)
set_option maxHeartbeats 4000000 in
theorem eX6_want_263 (F d : Nat) (this : Nat) (x7 : Int32) (h : Hp) (hx : FXs h) {r : Hp} (hf : fX6_want_263 F d this x7 h = some r) : FXs r ∧ EF S_X6_want h r := by
  unfold fX6_want_263 at hf
  replace hf := cvE hf
  obtain ⟨h1, e_h1, hf⟩ := hf
  have q_h1 := EFc (EF.rf (S := S_X6_want) _) (eX6_align F d hx e_h1) (by decide)
  have hx_h1 := q_h1.1
  have ef_h1 := q_h1.2
  exact EFj ef_h1 (eX6_want_267 F d _ _ _ hx_h1 hf)
set_option maxHeartbeats 4000000 in
theorem eX6_want_128 (F d : Nat) (this : Nat) (x4 : Int32) (x5 : Int32) (x6 : Int32) (h : Hp) (hx : FXs h) {r : Hp} (hf : fX6_want_128 F d this x4 x5 x6 h = some r) : FXs r ∧ EF S_X6_want h r := by
  unfold fX6_want_128 at hf
  replace hf := caE hf
  obtain ⟨v2, h1, e_h1, hf⟩ := hf
  have q_h1 := EFc (EF.rf (S := S_X6_want) _) (eX6_adds F d hx e_h1) (by decide)
  have hx_h1 := q_h1.1
  have ef_h1 := q_h1.2
  replace hf := bnE hf
  obtain ⟨v3, e_v3, hf⟩ := hf
  by_cases c4 : (gI h1 649 this) = 0
  · replace hf := ifp c4 hf
    cases hf
    exact ⟨hx_h1, ef_h1⟩
  · replace hf := ifn c4 hf
    replace hf := nnE hf
    obtain ⟨a6, e_a6, hf⟩ := hf
    have sa_a6 := hx_h1 611 _ _ e_a6
    replace hf := ckE hf
    obtain ⟨c7, hf⟩ := hf
    by_cases c8 : (gA h1 a6 (Int32.toNatClampNeg v3)) = 5
    · replace hf := ifp c8 hf
      cases hf
      exact ⟨hx_h1, ef_h1⟩
    · replace hf := ifn c8 hf
      replace hf := nnE hf
      obtain ⟨a10, e_a10, hf⟩ := hf
      have sa_a10 := hx_h1 611 _ _ e_a10
      replace hf := ckE hf
      obtain ⟨c11, hf⟩ := hf
      by_cases c12 : (gA h1 a10 (Int32.toNatClampNeg v3)) = 1
      · replace hf := ifp c12 hf
        replace hf := nnE hf
        obtain ⟨a75, e_a75, hf⟩ := hf
        have sa_a75 := hx_h1 637 _ _ e_a75
        replace hf := caE hf
        obtain ⟨v77, h76, e_h76, hf⟩ := hf
        have q_h76 := EFc ef_h1 (eX6_bit F d hx_h1 e_h76) (by decide)
        have hx_h76 := q_h76.1
        have ef_h76 := q_h76.2
        replace hf := ckE hf
        obtain ⟨c78, hf⟩ := hf
        replace hf := bnE hf
        obtain ⟨h79, e_h79, hf⟩ := hf
        have hx_h79 := FX_sA hx_h76 e_h79
        have ef_h79 := EF_sA ef_h76 e_h79 (f := 637) (by decide) sa_a75
        cases hf
        exact ⟨hx_h79, ef_h79⟩
      · replace hf := ifn c12 hf
        replace hf := nnE hf
        obtain ⟨a14, e_a14, hf⟩ := hf
        have sa_a14 := hx_h1 611 _ _ e_a14
        replace hf := ckE hf
        obtain ⟨c15, hf⟩ := hf
        by_cases c16 : (gA h1 a14 (Int32.toNatClampNeg v3)) = 4
        · replace hf := ifp c16 hf
          replace hf := nnE hf
          obtain ⟨a50, e_a50, hf⟩ := hf
          have sa_a50 := hx_h1 637 _ _ e_a50
          replace hf := caE hf
          obtain ⟨v52, h51, e_h51, hf⟩ := hf
          have q_h51 := EFc ef_h1 (eX6_counted F d hx_h1 e_h51) (by decide)
          have hx_h51 := q_h51.1
          have ef_h51 := q_h51.2
          replace hf := ckE hf
          obtain ⟨c53, hf⟩ := hf
          replace hf := bnE hf
          obtain ⟨h54, e_h54, hf⟩ := hf
          have hx_h54 := FX_sA hx_h51 e_h54
          have ef_h54 := EF_sA ef_h51 e_h54 (f := 637) (by decide) sa_a50
          replace hf := nnE hf
          obtain ⟨a56, e_a56, hf⟩ := hf
          have sa_a56 := hx_h54 618 _ _ e_a56
          replace hf := ckE hf
          obtain ⟨c57, hf⟩ := hf
          by_cases c58 : (gA h54 a56 (Int32.toNatClampNeg v3)) = 0
          · replace hf := ifp c58 hf
            exact EFj ef_h54 (eX6_want_267 F d _ _ _ hx_h54 hf)
          · replace hf := ifn c58 hf
            replace hf := nnE hf
            obtain ⟨a60, e_a60, hf⟩ := hf
            have sa_a60 := hx_h54 637 _ _ e_a60
            replace hf := ckE hf
            obtain ⟨c61, hf⟩ := hf
            by_cases c62 : (gA h54 a60 (Int32.toNatClampNeg v2)) ≤ 0
            · replace hf := ifp c62 hf
              exact EFj ef_h54 (eX6_want_267 F d _ _ _ hx_h54 hf)
            · replace hf := ifn c62 hf
              replace hf := nnE hf
              obtain ⟨a64, e_a64, hf⟩ := hf
              have sa_a64 := hx_h54 612 _ _ e_a64
              replace hf := ckE hf
              obtain ⟨c65, hf⟩ := hf
              replace hf := nnE hf
              obtain ⟨a67, e_a67, hf⟩ := hf
              have sa_a67 := hx_h54 613 _ _ e_a67
              replace hf := ckE hf
              obtain ⟨c68, hf⟩ := hf
              by_cases c69 : (gA h54 a64 (Int32.toNatClampNeg v3)) = (gA h54 a67 (Int32.toNatClampNeg v3))
              · replace hf := ifp c69 hf
                replace hf := nnE hf
                obtain ⟨a71, e_a71, hf⟩ := hf
                have sa_a71 := hx_h54 613 _ _ e_a71
                replace hf := ckE hf
                obtain ⟨c72, hf⟩ := hf
                by_cases c73 : (gA h54 a71 (Int32.toNatClampNeg v3)) ≤ 2
                · replace hf := ifp c73 hf
                  exact EFj ef_h54 (eX6_want_267 F d _ _ _ hx_h54 hf)
                · replace hf := ifn c73 hf
                  exact EFj ef_h54 (eX6_want_263 F d _ _ _ hx_h54 hf)
              · replace hf := ifn c69 hf
                exact EFj ef_h54 (eX6_want_263 F d _ _ _ hx_h54 hf)
        · replace hf := ifn c16 hf
          replace hf := nnE hf
          obtain ⟨a18, e_a18, hf⟩ := hf
          have sa_a18 := hx_h1 611 _ _ e_a18
          replace hf := ckE hf
          obtain ⟨c19, hf⟩ := hf
          by_cases c20 : (gA h1 a18 (Int32.toNatClampNeg v3)) = 6
          · replace hf := ifp c20 hf
            exact EFj ef_h1 (eX6_want_367 F d _ _ _ _ hx_h1 hf)
          · replace hf := ifn c20 hf
            replace hf := nnE hf
            obtain ⟨a22, e_a22, hf⟩ := hf
            have sa_a22 := hx_h1 611 _ _ e_a22
            replace hf := ckE hf
            obtain ⟨c23, hf⟩ := hf
            by_cases c24 : (gA h1 a22 (Int32.toNatClampNeg v3)) = 7
            · replace hf := ifp c24 hf
              exact EFj ef_h1 (eX6_want_367 F d _ _ _ _ hx_h1 hf)
            · replace hf := ifn c24 hf
              replace hf := nnE hf
              obtain ⟨a26, e_a26, hf⟩ := hf
              have sa_a26 := hx_h1 618 _ _ e_a26
              replace hf := ckE hf
              obtain ⟨c27, hf⟩ := hf
              by_cases c28 : (gA h1 a26 (Int32.toNatClampNeg v3)) = 0
              · replace hf := ifp c28 hf
                replace hf := cvE hf
                obtain ⟨h29, e_h29, hf⟩ := hf
                have q_h29 := EFc ef_h1 (eX6_align F d hx_h1 e_h29) (by decide)
                have hx_h29 := q_h29.1
                have ef_h29 := q_h29.2
                replace hf := caE hf
                obtain ⟨v32, h31, e_h31, hf⟩ := hf
                have q_h31 := EFc ef_h29 (eX6_some F d hx_h29 e_h31) (by decide)
                have hx_h31 := q_h31.1
                have ef_h31 := q_h31.2
                replace hf := caE hf
                obtain ⟨v34, h33, e_h33, hf⟩ := hf
                have q_h33 := EFc ef_h31 (eX6_in F d hx_h31 e_h33) (by decide)
                have hx_h33 := q_h33.1
                have ef_h33 := q_h33.2
                by_cases c35 : v34 = 0
                · replace hf := ifp c35 hf
                  exact EFj ef_h33 (eX6_want_573 F d _ _ _ _ hx_h33 hf)
                · replace hf := ifn c35 hf
                  by_cases c36 : ((gI h33 647 this) + (8 * v32)) ≤ (8 * (gI h33 628 this))
                  · replace hf := ifp c36 hf
                    exact EFj ef_h33 (eX6_want_578 F d _ _ _ _ hx_h33 hf)
                  · replace hf := ifn c36 hf
                    exact EFj ef_h33 (eX6_want_573 F d _ _ _ _ hx_h33 hf)
              · replace hf := ifn c28 hf
                replace hf := nnE hf
                obtain ⟨a38, e_a38, hf⟩ := hf
                have sa_a38 := hx_h1 637 _ _ e_a38
                replace hf := nnE hf
                obtain ⟨a40, e_a40, hf⟩ := hf
                have sa_a40 := hx_h1 612 _ _ e_a40
                replace hf := ckE hf
                obtain ⟨c41, hf⟩ := hf
                replace hf := nnE hf
                obtain ⟨a43, e_a43, hf⟩ := hf
                have sa_a43 := hx_h1 613 _ _ e_a43
                replace hf := ckE hf
                obtain ⟨c44, hf⟩ := hf
                replace hf := caE hf
                obtain ⟨v46, h45, e_h45, hf⟩ := hf
                have q_h45 := EFc ef_h1 (eX6_ranging F d hx_h1 e_h45) (by decide)
                have hx_h45 := q_h45.1
                have ef_h45 := q_h45.2
                replace hf := ckE hf
                obtain ⟨c47, hf⟩ := hf
                replace hf := bnE hf
                obtain ⟨h48, e_h48, hf⟩ := hf
                have hx_h48 := FX_sA hx_h45 e_h48
                have ef_h48 := EF_sA ef_h45 e_h48 (f := 637) (by decide) sa_a38
                cases hf
                exact ⟨hx_h48, ef_h48⟩
set_option maxHeartbeats 4000000 in
theorem eX6_want_85 (F d : Nat) (k_15 : Nat → Int32 → Int32 → Int32 → Hp → Option (Hp)) (hk_15 : ∀ (this : Nat) (x4 : Int32) (x5 : Int32) (x6 : Int32) (h : Hp) (hx : FXs h) {r : Hp}, k_15 this x4 x5 x6 h = some r → FXs r ∧ EF S_X6_want h r) (this : Nat) (x4 : Int32) (x5 : Int32) (x6 : Int32) (x8 : Int32) (h : Hp) (hx : FXs h) {r : Hp} (hf : fX6_want_85 F d k_15 this x4 x5 x6 x8 h = some r) : FXs r ∧ EF S_X6_want h r := by
  unfold fX6_want_85 at hf
  replace hf := caE hf
  obtain ⟨v2, h1, e_h1, hf⟩ := hf
  have q_h1 := EFc (EF.rf (S := S_X6_want) _) (eX6_adds F d hx e_h1) (by decide)
  have hx_h1 := q_h1.1
  have ef_h1 := q_h1.2
  replace hf := nnE hf
  obtain ⟨a4, e_a4, hf⟩ := hf
  have sa_a4 := hx_h1 620 _ _ e_a4
  replace hf := ckE hf
  obtain ⟨c5, hf⟩ := hf
  replace hf := bnE hf
  obtain ⟨v6, e_v6, hf⟩ := hf
  replace hf := cvE hf
  obtain ⟨h7, e_h7, hf⟩ := hf
  have q_h7 := EFc ef_h1 (eX6_unwrap F d hx_h1 e_h7) (by decide)
  have hx_h7 := q_h7.1
  have ef_h7 := q_h7.2
  exact EFj ef_h7 (hk_15 _ _ _ _ _ hx_h7 hf)
set_option maxHeartbeats 4000000 in
theorem eX6_want_57 (F d : Nat) (k_15 : Nat → Int32 → Int32 → Int32 → Hp → Option (Hp)) (hk_15 : ∀ (this : Nat) (x4 : Int32) (x5 : Int32) (x6 : Int32) (h : Hp) (hx : FXs h) {r : Hp}, k_15 this x4 x5 x6 h = some r → FXs r ∧ EF S_X6_want h r) : ∀ (n : Nat) (this : Nat) (x4 : Int32) (x5 : Int32) (x6 : Int32) (x7 : Int32) (x8 : Int32) (h : Hp) (hx : FXs h) {r : Hp}, fX6_want_57 F d k_15 n this x4 x5 x6 x7 x8 h = some r → FXs r ∧ EF S_X6_want h r := by
  intro n
  induction n with
  | zero => intro _ _ _ _ _ _ _ _ r hf; cases hf
  | succ n ih =>
    intro this x4 x5 x6 x7 x8 h hx r hf
    unfold fX6_want_57 at hf
    by_cases c1 : (gI h 649 this) = 0
    · replace hf := ifp c1 hf
      exact EFj (EF.rf (S := S_X6_want) _) (eX6_want_85 F d k_15 hk_15 _ _ _ _ _ _ hx hf)
    · replace hf := ifn c1 hf
      replace hf := caE hf
      obtain ⟨v3, h2, e_h2, hf⟩ := hf
      have q_h2 := EFc (EF.rf (S := S_X6_want) _) (eX6_rank F d hx e_h2) (by decide)
      have hx_h2 := q_h2.1
      have ef_h2 := q_h2.2
      by_cases c4 : v3 = x7
      · replace hf := ifp c4 hf
        exact EFj ef_h2 (eX6_want_85 F d k_15 hk_15 _ _ _ _ _ _ hx_h2 hf)
      · replace hf := ifn c4 hf
        replace hf := bnE hf
        obtain ⟨v5, e_v5, hf⟩ := hf
        exact EFj ef_h2 (ih _ _ _ _ _ _ _ hx_h2 hf)
set_option maxHeartbeats 4000000 in
theorem eX6_want_15 (F d : Nat) : ∀ (n : Nat) (this : Nat) (x4 : Int32) (x5 : Int32) (x6 : Int32) (h : Hp) (hx : FXs h) {r : Hp}, fX6_want_15 F d n this x4 x5 x6 h = some r → FXs r ∧ EF S_X6_want h r := by
  intro n
  induction n with
  | zero => intro _ _ _ _ _ _ r hf; cases hf
  | succ n ih =>
    intro this x4 x5 x6 h hx r hf
    unfold fX6_want_15 at hf
    by_cases c1 : (gI h 649 this) = 0
    · replace hf := ifp c1 hf
      exact EFj (EF.rf (S := S_X6_want) _) (eX6_want_128 F d _ _ _ _ _ hx hf)
    · replace hf := ifn c1 hf
      replace hf := nnE hf
      obtain ⟨a3, e_a3, hf⟩ := hf
      have sa_a3 := hx 611 _ _ e_a3
      replace hf := ckE hf
      obtain ⟨c4, hf⟩ := hf
      by_cases c5 : (gA h a3 (Int32.toNatClampNeg (gI h 623 this))) = 9
      · replace hf := ifp c5 hf
        replace hf := nnE hf
        obtain ⟨a7, e_a7, hf⟩ := hf
        have sa_a7 := hx 615 _ _ e_a7
        replace hf := ckE hf
        obtain ⟨c8, hf⟩ := hf
        replace hf := caE hf
        obtain ⟨v10, h9, e_h9, hf⟩ := hf
        have q_h9 := EFc (EF.rf (S := S_X6_want) _) (eX6_ranging F d hx e_h9) (by decide)
        have hx_h9 := q_h9.1
        have ef_h9 := q_h9.2
        exact EFj ef_h9 (eX6_want_57 F d (fX6_want_15 F d n) ih F _ _ _ _ _ _ _ hx_h9 hf)
      · replace hf := ifn c5 hf
        exact EFj (EF.rf (S := S_X6_want) _) (eX6_want_128 F d _ _ _ _ _ hx hf)
set_option maxHeartbeats 4000000 in
theorem eX6_want (F d : Nat) {this : Nat} {p0 : Int32} {p1 : Int32} {p2 : Int32} {h : Hp} (hx : FXs h) {r : Hp} (hf : fX6_want F d this p0 p1 p2 h = some r) : FXs r ∧ EF S_X6_want h r := by
  unfold fX6_want at hf
  replace hf := cvE hf
  obtain ⟨h1, e_h1, hf⟩ := hf
  have q_h1 := EFc (EF.rf (S := S_X6_want) _) (eX6_unwrap F d hx e_h1) (by decide)
  have hx_h1 := q_h1.1
  have ef_h1 := q_h1.2
  exact EFj ef_h1 (eX6_want_15 F d F _ _ _ _ _ hx_h1 hf)
abbrev S_X6_isEnd : SS := ([], [], [], [], [])
set_option maxHeartbeats 4000000 in
theorem eX6_isEnd (F d : Nat) {this : Nat} {h : Hp} (hx : FXs h) {r : Int32 × Hp} (hf : fX6_isEnd F d this h = some r) : FXs r.2 ∧ EF S_X6_isEnd h r.2 := by
  unfold fX6_isEnd at hf
  replace hf := nnE hf
  obtain ⟨a2, e_a2, hf⟩ := hf
  have sa_a2 := hx 654 _ _ e_a2
  replace hf := ckE hf
  obtain ⟨c3, hf⟩ := hf
  by_cases c4 : (gA h a2 (Int32.toNatClampNeg ((gI h 648 this) - 1))) = 0
  · replace hf := ifp c4 hf
    replace hf := caE hf
    obtain ⟨v17, h16, e_h16, hf⟩ := hf
    have q_h16 := EFc (EF.rf (S := S_X6_isEnd) _) (eX6_bound F d hx e_h16) (by decide)
    have hx_h16 := q_h16.1
    have ef_h16 := q_h16.2
    by_cases c18 : (gI h 647 this) = v17
    · replace hf := ifp c18 hf
      cases hf
      exact ⟨hx_h16, ef_h16⟩
    · replace hf := ifn c18 hf
      cases hf
      exact ⟨hx_h16, ef_h16⟩
  · replace hf := ifn c4 hf
    replace hf := caE hf
    obtain ⟨v6, h5, e_h5, hf⟩ := hf
    have q_h5 := EFc (EF.rf (S := S_X6_isEnd) _) (eX6_bound F d hx e_h5) (by decide)
    have hx_h5 := q_h5.1
    have ef_h5 := q_h5.2
    by_cases c7 : v6 ≤ ((gI h 647 this) + 1)
    · replace hf := ifp c7 hf
      cases hf
      exact ⟨hx_h5, ef_h5⟩
    · replace hf := ifn c7 hf
      replace hf := nnE hf
      obtain ⟨a9, e_a9, hf⟩ := hf
      have sa_a9 := hx_h5 632 _ _ e_a9
      replace hf := ckE hf
      obtain ⟨c10, hf⟩ := hf
      by_cases c11 : (gA h5 a9 (Int32.toNatClampNeg (gI h5 647 this))) = 0
      · replace hf := ifp c11 hf
        replace hf := nnE hf
        obtain ⟨a13, e_a13, hf⟩ := hf
        have sa_a13 := hx_h5 632 _ _ e_a13
        replace hf := ckE hf
        obtain ⟨c14, hf⟩ := hf
        by_cases c15 : (gA h5 a13 (Int32.toNatClampNeg ((gI h5 647 this) + 1))) = 0
        · replace hf := ifp c15 hf
          cases hf
          exact ⟨hx_h5, ef_h5⟩
        · replace hf := ifn c15 hf
          cases hf
          exact ⟨hx_h5, ef_h5⟩
      · replace hf := ifn c11 hf
        cases hf
        exact ⟨hx_h5, ef_h5⟩
abbrev S_X6_baseOf : SS := ([623, 624], [], [625, 626], [], [])
set_option maxHeartbeats 4000000 in
theorem eX6_baseOf (F d : Nat) {this : Nat} {p0 : Int32} {h : Hp} (hx : FXs h) {r : Int32 × Hp} (hf : fX6_baseOf F d this p0 h = some r) : FXs r.2 ∧ EF S_X6_baseOf h r.2 := by
  unfold fX6_baseOf at hf
  replace hf := nnE hf
  obtain ⟨a2, e_a2, hf⟩ := hf
  have sa_a2 := hx 636 _ _ e_a2
  replace hf := ckE hf
  obtain ⟨c3, hf⟩ := hf
  replace hf := cvE hf
  obtain ⟨h4, e_h4, hf⟩ := hf
  have q_h4 := EFc (EF.rf (S := S_X6_baseOf) _) (eX6_unwrap F d hx e_h4) (by decide)
  have hx_h4 := q_h4.1
  have ef_h4 := q_h4.2
  cases hf
  exact ⟨hx_h4, ef_h4⟩
abbrev S_X6_leaveFrame : SS := ([647, 648, 649], [], [], [], [])
set_option maxHeartbeats 4000000 in
theorem eX6_leaveFrame_43 (F d : Nat) (this : Nat) (s0 : Nat) (s1 : Int32) (s2 : Int32) (h : Hp) (hx : FXs h) {r : Hp} (hf : fX6_leaveFrame_43 F d this s0 s1 s2 h = some r) : FXs r ∧ EF S_X6_leaveFrame h r := by
  unfold fX6_leaveFrame_43 at hf
  replace hf := bnE hf
  obtain ⟨h1, e_h1, hf⟩ := hf
  have hx_h1 := FX_sI hx e_h1
  have ef_h1 := EF_sI (EF.rf (S := S_X6_leaveFrame) _) e_h1 (by decide)
  replace hf := bnE hf
  obtain ⟨h2, e_h2, hf⟩ := hf
  have hx_h2 := FX_sI hx_h1 e_h2
  have ef_h2 := EF_sI ef_h1 e_h2 (by decide)
  cases hf
  exact ⟨hx_h2, ef_h2⟩
set_option maxHeartbeats 4000000 in
theorem eX6_leaveFrame_19 (F d : Nat) (this : Nat) (h : Hp) (hx : FXs h) {r : Hp} (hf : fX6_leaveFrame_19 F d this h = some r) : FXs r ∧ EF S_X6_leaveFrame h r := by
  unfold fX6_leaveFrame_19 at hf
  replace hf := nnE hf
  obtain ⟨a2, e_a2, hf⟩ := hf
  have sa_a2 := hx 654 _ _ e_a2
  replace hf := ckE hf
  obtain ⟨c3, hf⟩ := hf
  by_cases c4 : (gA h a2 (Int32.toNatClampNeg ((gI h 648 this) - 1))) = 0
  · replace hf := ifp c4 hf
    exact EFj (EF.rf (S := S_X6_leaveFrame) _) (eX6_leaveFrame_43 F d _ _ _ _ _ hx hf)
  · replace hf := ifn c4 hf
    exact EFj (EF.rf (S := S_X6_leaveFrame) _) (eX6_leaveFrame_43 F d _ _ _ _ _ hx hf)
set_option maxHeartbeats 4000000 in
theorem eX6_leaveFrame (F d : Nat) {this : Nat} {h : Hp} (hx : FXs h) {r : Hp} (hf : fX6_leaveFrame F d this h = some r) : FXs r ∧ EF S_X6_leaveFrame h r := by
  unfold fX6_leaveFrame at hf
  by_cases c1 : (gI h 649 this) = 0
  · replace hf := ifp c1 hf
    exact EFj (EF.rf (S := S_X6_leaveFrame) _) (eX6_leaveFrame_19 F d _ _ hx hf)
  · replace hf := ifn c1 hf
    replace hf := caE hf
    obtain ⟨v3, h2, e_h2, hf⟩ := hf
    have q_h2 := EFc (EF.rf (S := S_X6_leaveFrame) _) (eX6_isEnd F d hx e_h2) (by decide)
    have hx_h2 := q_h2.1
    have ef_h2 := q_h2.2
    by_cases c4 : v3 = 0
    · replace hf := ifp c4 hf
      replace hf := bnE hf
      obtain ⟨h5, e_h5, hf⟩ := hf
      have hx_h5 := FX_sI hx_h2 e_h5
      have ef_h5 := EF_sI ef_h2 e_h5 (by decide)
      exact EFj ef_h5 (eX6_leaveFrame_19 F d _ _ hx_h5 hf)
    · replace hf := ifn c4 hf
      exact EFj ef_h2 (eX6_leaveFrame_19 F d _ _ hx_h2 hf)
abbrev S_X6_absent : SS := ([634, 649], [], [636, 637, 638, 639, 640], [], [])
set_option maxHeartbeats 4000000 in
theorem eX6_absent_23 (F d : Nat) (this : Nat) (x1 : Int32) (x3 : Int32) (x4 : Int32) (h : Hp) (hx : FXs h) {r : Hp} (hf : fX6_absent_23 F d this x1 x3 x4 h = some r) : FXs r ∧ EF S_X6_absent h r := by
  unfold fX6_absent_23 at hf
  replace hf := nnE hf
  obtain ⟨a2, e_a2, hf⟩ := hf
  have sa_a2 := hx 621 _ _ e_a2
  replace hf := ckE hf
  obtain ⟨c3, hf⟩ := hf
  by_cases c4 : (gA h a2 (Int32.toNatClampNeg x4)) = 2
  · replace hf := ifp c4 hf
    replace hf := nnE hf
    obtain ⟨a6, e_a6, hf⟩ := hf
    have sa_a6 := hx 637 _ _ e_a6
    replace hf := ckE hf
    obtain ⟨c7, hf⟩ := hf
    replace hf := ckE hf
    obtain ⟨c8, hf⟩ := hf
    replace hf := bnE hf
    obtain ⟨h9, e_h9, hf⟩ := hf
    have hx_h9 := FX_sA hx e_h9
    have ef_h9 := EF_sA (EF.rf (S := S_X6_absent) _) e_h9 (f := 637) (by decide) sa_a6
    replace hf := nnE hf
    obtain ⟨a11, e_a11, hf⟩ := hf
    have sa_a11 := hx_h9 620 _ _ e_a11
    replace hf := ckE hf
    obtain ⟨c12, hf⟩ := hf
    replace hf := nnE hf
    obtain ⟨a14, e_a14, hf⟩ := hf
    have sa_a14 := hx_h9 622 _ _ e_a14
    replace hf := ckE hf
    obtain ⟨c15, hf⟩ := hf
    replace hf := caE hf
    obtain ⟨v17, h16, e_h16, hf⟩ := hf
    have q_h16 := EFc ef_h9 (eX6_adds F d hx_h9 e_h16) (by decide)
    have hx_h16 := q_h16.1
    have ef_h16 := q_h16.2
    cases hf
    exact ⟨hx_h16, ef_h16⟩
  · replace hf := ifn c4 hf
    cases hf
    exact ⟨hx, (EF.rf (S := S_X6_absent) _)⟩
set_option maxHeartbeats 4000000 in
theorem eX6_absent (F d : Nat) {this : Nat} {p0 : Int32} {p1 : Int32} {p2 : Int32} {h : Hp} (hx : FXs h) {r : Hp} (hf : fX6_absent F d this p0 p1 p2 h = some r) : FXs r ∧ EF S_X6_absent h r := by
  unfold fX6_absent at hf
  replace hf := bnE hf
  obtain ⟨v1, e_v1, hf⟩ := hf
  replace hf := nnE hf
  obtain ⟨a3, e_a3, hf⟩ := hf
  have sa_a3 := hx 621 _ _ e_a3
  replace hf := ckE hf
  obtain ⟨c4, hf⟩ := hf
  by_cases c5 : (gA h a3 (Int32.toNatClampNeg v1)) = 0
  · replace hf := ifp c5 hf
    replace hf := bnE hf
    obtain ⟨h6, e_h6, hf⟩ := hf
    have hx_h6 := FX_sI hx e_h6
    have ef_h6 := EF_sI (EF.rf (S := S_X6_absent) _) e_h6 (by decide)
    exact EFj ef_h6 (eX6_absent_23 F d _ _ _ _ _ hx_h6 hf)
  · replace hf := ifn c5 hf
    exact EFj (EF.rf (S := S_X6_absent) _) (eX6_absent_23 F d _ _ _ _ _ hx hf)
abbrev S_X6_goOn : SS := ([623, 624, 634, 635, 647, 648, 649], [], [625, 626, 636, 637, 638, 639, 640, 643, 650, 651, 652, 653, 654], [], [])
set_option maxHeartbeats 4000000 in
theorem eX6_goOn_112 (F d : Nat) (this : Nat) (s0 : Nat) (s1 : Int32) (h : Hp) (hx : FXs h) {r : Hp} (hf : fX6_goOn_112 F d this s0 s1 h = some r) : FXs r ∧ EF S_X6_goOn h r := by
  unfold fX6_goOn_112 at hf
  replace hf := ckE hf
  obtain ⟨c2, hf⟩ := hf
  replace hf := bnE hf
  obtain ⟨h1, e_h1, hf⟩ := hf
  have hx_h1 := FX_sI hx e_h1
  have ef_h1 := EF_sI (EF.rf (S := S_X6_goOn) _) e_h1 (by decide)
  replace hf := cvE hf
  obtain ⟨h3, e_h3, hf⟩ := hf
  have q_h3 := EFc ef_h1 (eX6_leaveFrame F d hx_h1 e_h3) (by decide)
  have hx_h3 := q_h3.1
  have ef_h3 := q_h3.2
  cases hf
  exact ⟨hx_h3, ef_h3⟩
set_option maxHeartbeats 4000000 in
theorem eX6_goOn_107 (F d : Nat) (this : Nat) (s0 : Nat) (h : Hp) (hx : FXs h) {r : Hp} (hf : fX6_goOn_107 F d this s0 h = some r) : FXs r ∧ EF S_X6_goOn h r := by
  unfold fX6_goOn_107 at hf
  exact EFj (EF.rf (S := S_X6_goOn) _) (eX6_goOn_112 F d _ _ _ _ hx hf)
set_option maxHeartbeats 4000000 in
theorem eX6_goOn_66 (F d : Nat) (this : Nat) (x2 : Int32) (x4 : Int32) (h : Hp) (hx : FXs h) {r : Hp} (hf : fX6_goOn_66 F d this x2 x4 h = some r) : FXs r ∧ EF S_X6_goOn h r := by
  unfold fX6_goOn_66 at hf
  by_cases c1 : x2 < 0
  · replace hf := ifp c1 hf
    exact EFj (EF.rf (S := S_X6_goOn) _) (eX6_goOn_107 F d _ _ _ hx hf)
  · replace hf := ifn c1 hf
    replace hf := nnE hf
    obtain ⟨a3, e_a3, hf⟩ := hf
    have sa_a3 := hx 618 _ _ e_a3
    replace hf := ckE hf
    obtain ⟨c4, hf⟩ := hf
    by_cases c5 : (gA h a3 (Int32.toNatClampNeg x4)) = 0
    · replace hf := ifp c5 hf
      exact EFj (EF.rf (S := S_X6_goOn) _) (eX6_goOn_107 F d _ _ _ hx hf)
    · replace hf := ifn c5 hf
      replace hf := nnE hf
      obtain ⟨a7, e_a7, hf⟩ := hf
      have sa_a7 := hx 637 _ _ e_a7
      replace hf := ckE hf
      obtain ⟨c8, hf⟩ := hf
      replace hf := nnE hf
      obtain ⟨a10, e_a10, hf⟩ := hf
      have sa_a10 := hx 612 _ _ e_a10
      replace hf := ckE hf
      obtain ⟨c11, hf⟩ := hf
      replace hf := nnE hf
      obtain ⟨a13, e_a13, hf⟩ := hf
      have sa_a13 := hx 613 _ _ e_a13
      replace hf := ckE hf
      obtain ⟨c14, hf⟩ := hf
      replace hf := caE hf
      obtain ⟨v16, h15, e_h15, hf⟩ := hf
      have q_h15 := EFc (EF.rf (S := S_X6_goOn) _) (eX6_in F d hx e_h15) (by decide)
      have hx_h15 := q_h15.1
      have ef_h15 := q_h15.2
      by_cases c17 : v16 = 0
      · replace hf := ifp c17 hf
        exact EFj ef_h15 (eX6_goOn_112 F d _ _ _ _ hx_h15 hf)
      · replace hf := ifn c17 hf
        exact EFj ef_h15 (eX6_goOn_107 F d _ _ _ hx_h15 hf)
set_option maxHeartbeats 4000000 in
theorem eX6_goOn_265 (F d : Nat) (this : Nat) (x1 : Int32) (x2 : Int32) (x4 : Int32) (x6 : Int32) (h : Hp) (hx : FXs h) {r : Hp} (hf : fX6_goOn_265 F d this x1 x2 x4 x6 h = some r) : FXs r ∧ EF S_X6_goOn h r := by
  unfold fX6_goOn_265 at hf
  replace hf := nnE hf
  obtain ⟨a2, e_a2, hf⟩ := hf
  have sa_a2 := hx 652 _ _ e_a2
  replace hf := ckE hf
  obtain ⟨c3, hf⟩ := hf
  replace hf := bnE hf
  obtain ⟨h4, e_h4, hf⟩ := hf
  have hx_h4 := FX_sA hx e_h4
  have ef_h4 := EF_sA (EF.rf (S := S_X6_goOn) _) e_h4 (f := 652) (by decide) sa_a2
  replace hf := nnE hf
  obtain ⟨a6, e_a6, hf⟩ := hf
  have sa_a6 := hx_h4 615 _ _ e_a6
  replace hf := ckE hf
  obtain ⟨c7, hf⟩ := hf
  by_cases c8 : x6 = (gA h4 a6 (Int32.toNatClampNeg x4))
  · replace hf := ifp c8 hf
    replace hf := cvE hf
    obtain ⟨h20, e_h20, hf⟩ := hf
    have q_h20 := EFc ef_h4 (eX6_leaveFrame F d hx_h4 e_h20) (by decide)
    have hx_h20 := q_h20.1
    have ef_h20 := q_h20.2
    cases hf
    exact ⟨hx_h20, ef_h20⟩
  · replace hf := ifn c8 hf
    by_cases c9 : (gI h4 649 this) = 0
    · replace hf := ifp c9 hf
      cases hf
      exact ⟨hx_h4, ef_h4⟩
    · replace hf := ifn c9 hf
      replace hf := nnE hf
      obtain ⟨a11, e_a11, hf⟩ := hf
      have sa_a11 := hx_h4 637 _ _ e_a11
      replace hf := ckE hf
      obtain ⟨c12, hf⟩ := hf
      replace hf := ckE hf
      obtain ⟨c13, hf⟩ := hf
      replace hf := bnE hf
      obtain ⟨h14, e_h14, hf⟩ := hf
      have hx_h14 := FX_sA hx_h4 e_h14
      have ef_h14 := EF_sA ef_h4 e_h14 (f := 637) (by decide) sa_a11
      replace hf := nnE hf
      obtain ⟨a16, e_a16, hf⟩ := hf
      have sa_a16 := hx_h14 620 _ _ e_a16
      replace hf := ckE hf
      obtain ⟨c17, hf⟩ := hf
      replace hf := cvE hf
      obtain ⟨h18, e_h18, hf⟩ := hf
      have q_h18 := EFc ef_h14 (eX6_element F d hx_h14 e_h18) (by decide)
      have hx_h18 := q_h18.1
      have ef_h18 := q_h18.2
      cases hf
      exact ⟨hx_h18, ef_h18⟩
set_option maxHeartbeats 4000000 in
theorem eX6_goOn_207 (F d : Nat) : ∀ (n : Nat) (this : Nat) (x1 : Int32) (x2 : Int32) (x4 : Int32) (x5 : Int32) (x6 : Int32) (h : Hp) (hx : FXs h) {r : Hp}, fX6_goOn_207 F d n this x1 x2 x4 x5 x6 h = some r → FXs r ∧ EF S_X6_goOn h r := by
  intro n
  induction n with
  | zero => intro _ _ _ _ _ _ _ _ r hf; cases hf
  | succ n ih =>
    intro this x1 x2 x4 x5 x6 h hx r hf
    unfold fX6_goOn_207 at hf
    by_cases c1 : (gI h 649 this) = 0
    · replace hf := ifp c1 hf
      exact EFj (EF.rf (S := S_X6_goOn) _) (eX6_goOn_265 F d _ _ _ _ _ _ hx hf)
    · replace hf := ifn c1 hf
      replace hf := nnE hf
      obtain ⟨a3, e_a3, hf⟩ := hf
      have sa_a3 := hx 615 _ _ e_a3
      replace hf := ckE hf
      obtain ⟨c4, hf⟩ := hf
      by_cases c5 : (gA h a3 (Int32.toNatClampNeg x4)) ≤ x6
      · replace hf := ifp c5 hf
        exact EFj (EF.rf (S := S_X6_goOn) _) (eX6_goOn_265 F d _ _ _ _ _ _ hx hf)
      · replace hf := ifn c5 hf
        replace hf := nnE hf
        obtain ⟨a7, e_a7, hf⟩ := hf
        have sa_a7 := hx 616 _ _ e_a7
        replace hf := nnE hf
        obtain ⟨a9, e_a9, hf⟩ := hf
        have sa_a9 := hx 620 _ _ e_a9
        replace hf := ckE hf
        obtain ⟨c10, hf⟩ := hf
        replace hf := ckE hf
        obtain ⟨c11, hf⟩ := hf
        by_cases c12 : ((gA h a7 (Int32.toNatClampNeg (gA h a9 (Int32.toNatClampNeg ((6 * x4) + x6))))) &&& x5) = 0
        · replace hf := ifp c12 hf
          replace hf := cvE hf
          obtain ⟨h13, e_h13, hf⟩ := hf
          have q_h13 := EFc (EF.rf (S := S_X6_goOn) _) (eX6_absent F d hx e_h13) (by decide)
          have hx_h13 := q_h13.1
          have ef_h13 := q_h13.2
          replace hf := bnE hf
          obtain ⟨v15, e_v15, hf⟩ := hf
          exact EFj ef_h13 (ih _ _ _ _ _ _ _ hx_h13 hf)
        · replace hf := ifn c12 hf
          exact EFj (EF.rf (S := S_X6_goOn) _) (eX6_goOn_265 F d _ _ _ _ _ _ hx hf)
set_option maxHeartbeats 4000000 in
theorem eX6_goOn_197 (F d : Nat) (this : Nat) (x1 : Int32) (x2 : Int32) (x4 : Int32) (s0 : Int32) (h : Hp) (hx : FXs h) {r : Hp} (hf : fX6_goOn_197 F d this x1 x2 x4 s0 h = some r) : FXs r ∧ EF S_X6_goOn h r := by
  unfold fX6_goOn_197 at hf
  replace hf := nnE hf
  obtain ⟨a2, e_a2, hf⟩ := hf
  have sa_a2 := hx 652 _ _ e_a2
  replace hf := ckE hf
  obtain ⟨c3, hf⟩ := hf
  replace hf := bnE hf
  obtain ⟨v4, e_v4, hf⟩ := hf
  exact EFj (EF.rf (S := S_X6_goOn) _) (eX6_goOn_207 F d F _ _ _ _ _ _ _ hx hf)
set_option maxHeartbeats 4000000 in
theorem eX6_goOn_196 (F d : Nat) (this : Nat) (x1 : Int32) (x2 : Int32) (x4 : Int32) (h : Hp) (hx : FXs h) {r : Hp} (hf : fX6_goOn_196 F d this x1 x2 x4 h = some r) : FXs r ∧ EF S_X6_goOn h r := by
  unfold fX6_goOn_196 at hf
  exact EFj (EF.rf (S := S_X6_goOn) _) (eX6_goOn_197 F d _ _ _ _ _ _ hx hf)
set_option maxHeartbeats 4000000 in
theorem eX6_goOn_120 (F d : Nat) (this : Nat) (x1 : Int32) (x2 : Int32) (x3 : Int32) (x4 : Int32) (h : Hp) (hx : FXs h) {r : Hp} (hf : fX6_goOn_120 F d this x1 x2 x3 x4 h = some r) : FXs r ∧ EF S_X6_goOn h r := by
  unfold fX6_goOn_120 at hf
  replace hf := nnE hf
  obtain ⟨a2, e_a2, hf⟩ := hf
  have sa_a2 := hx 611 _ _ e_a2
  replace hf := ckE hf
  obtain ⟨c3, hf⟩ := hf
  by_cases c4 : (gA h a2 (Int32.toNatClampNeg x4)) = 7
  · replace hf := ifp c4 hf
    replace hf := nnE hf
    obtain ⟨a15, e_a15, hf⟩ := hf
    have sa_a15 := hx 637 _ _ e_a15
    replace hf := ckE hf
    obtain ⟨c16, hf⟩ := hf
    replace hf := ckE hf
    obtain ⟨c17, hf⟩ := hf
    replace hf := bnE hf
    obtain ⟨h18, e_h18, hf⟩ := hf
    have hx_h18 := FX_sA hx e_h18
    have ef_h18 := EF_sA (EF.rf (S := S_X6_goOn) _) e_h18 (f := 637) (by decide) sa_a15
    replace hf := nnE hf
    obtain ⟨a20, e_a20, hf⟩ := hf
    have sa_a20 := hx_h18 620 _ _ e_a20
    replace hf := ckE hf
    obtain ⟨c21, hf⟩ := hf
    replace hf := nnE hf
    obtain ⟨a23, e_a23, hf⟩ := hf
    have sa_a23 := hx_h18 637 _ _ e_a23
    replace hf := ckE hf
    obtain ⟨c24, hf⟩ := hf
    replace hf := cvE hf
    obtain ⟨h25, e_h25, hf⟩ := hf
    have q_h25 := EFc ef_h18 (eX6_element F d hx_h18 e_h25) (by decide)
    have hx_h25 := q_h25.1
    have ef_h25 := q_h25.2
    cases hf
    exact ⟨hx_h25, ef_h25⟩
  · replace hf := ifn c4 hf
    by_cases c5 : x3 = 0
    · replace hf := ifp c5 hf
      replace hf := caE hf
      obtain ⟨v7, h6, e_h6, hf⟩ := hf
      have q_h6 := EFc (EF.rf (S := S_X6_goOn) _) (eX6_bound F d hx e_h6) (by decide)
      have hx_h6 := q_h6.1
      have ef_h6 := q_h6.2
      by_cases c8 : v7 ≤ (gI h 647 this)
      · replace hf := ifp c8 hf
        exact EFj ef_h6 (eX6_goOn_196 F d _ _ _ _ _ hx_h6 hf)
      · replace hf := ifn c8 hf
        replace hf := nnE hf
        obtain ⟨a10, e_a10, hf⟩ := hf
        have sa_a10 := hx_h6 632 _ _ e_a10
        replace hf := ckE hf
        obtain ⟨c11, hf⟩ := hf
        replace hf := caE hf
        obtain ⟨v13, h12, e_h12, hf⟩ := hf
        have q_h12 := EFc ef_h6 (eX6_bitOf F d hx_h6 e_h12) (by decide)
        have hx_h12 := q_h12.1
        have ef_h12 := q_h12.2
        exact EFj ef_h12 (eX6_goOn_197 F d _ _ _ _ _ _ hx_h12 hf)
    · replace hf := ifn c5 hf
      exact EFj (EF.rf (S := S_X6_goOn) _) (eX6_goOn_196 F d _ _ _ _ _ hx hf)
set_option maxHeartbeats 4000000 in
theorem eX6_goOn_44 (F d : Nat) (this : Nat) (x1 : Int32) (x2 : Int32) (x3 : Int32) (s0 : Int32) (h : Hp) (hx : FXs h) {r : Hp} (hf : fX6_goOn_44 F d this x1 x2 x3 s0 h = some r) : FXs r ∧ EF S_X6_goOn h r := by
  unfold fX6_goOn_44 at hf
  by_cases c1 : x2 < 0
  · replace hf := ifp c1 hf
    exact EFj (EF.rf (S := S_X6_goOn) _) (eX6_goOn_66 F d _ _ _ _ hx hf)
  · replace hf := ifn c1 hf
    replace hf := nnE hf
    obtain ⟨a3, e_a3, hf⟩ := hf
    have sa_a3 := hx 611 _ _ e_a3
    replace hf := ckE hf
    obtain ⟨c4, hf⟩ := hf
    by_cases c5 : (gA h a3 (Int32.toNatClampNeg s0)) = 7
    · replace hf := ifp c5 hf
      by_cases c6 : x3 = 0
      · replace hf := ifp c6 hf
        exact EFj (EF.rf (S := S_X6_goOn) _) (eX6_goOn_120 F d _ _ _ _ _ _ hx hf)
      · replace hf := ifn c6 hf
        exact EFj (EF.rf (S := S_X6_goOn) _) (eX6_goOn_66 F d _ _ _ _ hx hf)
    · replace hf := ifn c5 hf
      exact EFj (EF.rf (S := S_X6_goOn) _) (eX6_goOn_120 F d _ _ _ _ _ _ hx hf)
set_option maxHeartbeats 4000000 in
theorem eX6_goOn_30 (F d : Nat) (this : Nat) (x1 : Int32) (x2 : Int32) (s0 : Int32) (h : Hp) (hx : FXs h) {r : Hp} (hf : fX6_goOn_30 F d this x1 x2 s0 h = some r) : FXs r ∧ EF S_X6_goOn h r := by
  unfold fX6_goOn_30 at hf
  by_cases c1 : 0 ≤ x2
  · replace hf := ifp c1 hf
    replace hf := caE hf
    obtain ⟨v3, h2, e_h2, hf⟩ := hf
    have q_h2 := EFc (EF.rf (S := S_X6_goOn) _) (eX6_baseOf F d hx e_h2) (by decide)
    have hx_h2 := q_h2.1
    have ef_h2 := q_h2.2
    exact EFj ef_h2 (eX6_goOn_44 F d _ _ _ _ _ _ hx_h2 hf)
  · replace hf := ifn c1 hf
    exact EFj (EF.rf (S := S_X6_goOn) _) (eX6_goOn_44 F d _ _ _ _ _ _ hx hf)
set_option maxHeartbeats 4000000 in
theorem eX6_goOn_25 (F d : Nat) (this : Nat) (x1 : Int32) (x2 : Int32) (h : Hp) (hx : FXs h) {r : Hp} (hf : fX6_goOn_25 F d this x1 x2 h = some r) : FXs r ∧ EF S_X6_goOn h r := by
  unfold fX6_goOn_25 at hf
  exact EFj (EF.rf (S := S_X6_goOn) _) (eX6_goOn_30 F d _ _ _ _ _ hx hf)
set_option maxHeartbeats 4000000 in
theorem eX6_goOn (F d : Nat) {this : Nat} {h : Hp} (hx : FXs h) {r : Hp} (hf : fX6_goOn F d this h = some r) : FXs r ∧ EF S_X6_goOn h r := by
  unfold fX6_goOn at hf
  replace hf := bnE hf
  obtain ⟨v1, e_v1, hf⟩ := hf
  replace hf := nnE hf
  obtain ⟨a3, e_a3, hf⟩ := hf
  have sa_a3 := hx 650 _ _ e_a3
  replace hf := ckE hf
  obtain ⟨c4, hf⟩ := hf
  replace hf := bnE hf
  obtain ⟨v5, e_v5, hf⟩ := hf
  by_cases c6 : v5 < 0
  · replace hf := ifp c6 hf
    exact EFj (EF.rf (S := S_X6_goOn) _) (eX6_goOn_25 F d _ _ _ _ hx hf)
  · replace hf := ifn c6 hf
    replace hf := caE hf
    obtain ⟨v8, h7, e_h7, hf⟩ := hf
    have q_h7 := EFc (EF.rf (S := S_X6_goOn) _) (eX6_isEnd F d hx e_h7) (by decide)
    have hx_h7 := q_h7.1
    have ef_h7 := q_h7.2
    by_cases c9 : v8 = 0
    · replace hf := ifp c9 hf
      exact EFj ef_h7 (eX6_goOn_30 F d _ _ _ _ _ hx_h7 hf)
    · replace hf := ifn c9 hf
      exact EFj ef_h7 (eX6_goOn_25 F d _ _ _ _ hx_h7 hf)
abbrev S_X6_goOnPacked : SS := ([623, 624, 634, 635, 647, 648, 649], [], [625, 626, 636, 637, 638, 639, 640, 643, 650, 651, 652, 653, 654], [], [])
set_option maxHeartbeats 4000000 in
theorem eX6_goOnPacked_66 (F d : Nat) (this : Nat) (x1 : Int32) (x2 : Int32) (x3 : Int32) (x4 : Int32) (s0 : Int32) (s1 : Int32) (h : Hp) (hx : FXs h) {r : Hp} (hf : fX6_goOnPacked_66 F d this x1 x2 x3 x4 s0 s1 h = some r) : FXs r ∧ EF S_X6_goOnPacked h r := by
  unfold fX6_goOnPacked_66 at hf
  by_cases c1 : s0 = s1
  · replace hf := ifp c1 hf
    replace hf := bnE hf
    obtain ⟨h30, e_h30, hf⟩ := hf
    have hx_h30 := FX_sI hx e_h30
    have ef_h30 := EF_sI (EF.rf (S := S_X6_goOnPacked) _) e_h30 (by decide)
    cases hf
    exact ⟨hx_h30, ef_h30⟩
  · replace hf := ifn c1 hf
    replace hf := nnE hf
    obtain ⟨a3, e_a3, hf⟩ := hf
    have sa_a3 := hx 611 _ _ e_a3
    replace hf := ckE hf
    obtain ⟨c4, hf⟩ := hf
    by_cases c5 : (gA h a3 (Int32.toNatClampNeg x3)) = 6
    · replace hf := ifp c5 hf
      replace hf := nnE hf
      obtain ⟨a7, e_a7, hf⟩ := hf
      have sa_a7 := hx 653 _ _ e_a7
      replace hf := ckE hf
      obtain ⟨c8, hf⟩ := hf
      replace hf := nnE hf
      obtain ⟨a10, e_a10, hf⟩ := hf
      have sa_a10 := hx 615 _ _ e_a10
      replace hf := ckE hf
      obtain ⟨c11, hf⟩ := hf
      by_cases c12 : (((gA h a7 (Int32.toNatClampNeg x1)) >>> ((((gA h a10 (Int32.toNatClampNeg x3)) - 1) - x4) &&& 31)) &&& 1) = 0
      · replace hf := ifp c12 hf
        replace hf := cvE hf
        obtain ⟨h23, e_h23, hf⟩ := hf
        have q_h23 := EFc (EF.rf (S := S_X6_goOnPacked) _) (eX6_absent F d hx e_h23) (by decide)
        have hx_h23 := q_h23.1
        have ef_h23 := q_h23.2
        cases hf
        exact ⟨hx_h23, ef_h23⟩
      · replace hf := ifn c12 hf
        replace hf := nnE hf
        obtain ⟨a14, e_a14, hf⟩ := hf
        have sa_a14 := hx 637 _ _ e_a14
        replace hf := ckE hf
        obtain ⟨c15, hf⟩ := hf
        replace hf := ckE hf
        obtain ⟨c16, hf⟩ := hf
        replace hf := bnE hf
        obtain ⟨h17, e_h17, hf⟩ := hf
        have hx_h17 := FX_sA hx e_h17
        have ef_h17 := EF_sA (EF.rf (S := S_X6_goOnPacked) _) e_h17 (f := 637) (by decide) sa_a14
        replace hf := nnE hf
        obtain ⟨a19, e_a19, hf⟩ := hf
        have sa_a19 := hx_h17 620 _ _ e_a19
        replace hf := ckE hf
        obtain ⟨c20, hf⟩ := hf
        replace hf := cvE hf
        obtain ⟨h21, e_h21, hf⟩ := hf
        have q_h21 := EFc ef_h17 (eX6_want F d hx_h17 e_h21) (by decide)
        have hx_h21 := q_h21.1
        have ef_h21 := q_h21.2
        cases hf
        exact ⟨hx_h21, ef_h21⟩
    · replace hf := ifn c5 hf
      replace hf := nnE hf
      obtain ⟨a26, e_a26, hf⟩ := hf
      have sa_a26 := hx 620 _ _ e_a26
      replace hf := ckE hf
      obtain ⟨c27, hf⟩ := hf
      replace hf := cvE hf
      obtain ⟨h28, e_h28, hf⟩ := hf
      have q_h28 := EFc (EF.rf (S := S_X6_goOnPacked) _) (eX6_want F d hx e_h28) (by decide)
      have hx_h28 := q_h28.1
      have ef_h28 := q_h28.2
      cases hf
      exact ⟨hx_h28, ef_h28⟩
set_option maxHeartbeats 4000000 in
theorem eX6_goOnPacked (F d : Nat) {this : Nat} {h : Hp} (hx : FXs h) {r : Hp} (hf : fX6_goOnPacked F d this h = some r) : FXs r ∧ EF S_X6_goOnPacked h r := by
  unfold fX6_goOnPacked at hf
  replace hf := bnE hf
  obtain ⟨v1, e_v1, hf⟩ := hf
  replace hf := nnE hf
  obtain ⟨a3, e_a3, hf⟩ := hf
  have sa_a3 := hx 650 _ _ e_a3
  replace hf := ckE hf
  obtain ⟨c4, hf⟩ := hf
  replace hf := bnE hf
  obtain ⟨v5, e_v5, hf⟩ := hf
  replace hf := caE hf
  obtain ⟨v7, h6, e_h6, hf⟩ := hf
  have q_h6 := EFc (EF.rf (S := S_X6_goOnPacked) _) (eX6_baseOf F d hx e_h6) (by decide)
  have hx_h6 := q_h6.1
  have ef_h6 := q_h6.2
  replace hf := nnE hf
  obtain ⟨a9, e_a9, hf⟩ := hf
  have sa_a9 := hx_h6 652 _ _ e_a9
  replace hf := ckE hf
  obtain ⟨c10, hf⟩ := hf
  replace hf := bnE hf
  obtain ⟨v11, e_v11, hf⟩ := hf
  replace hf := nnE hf
  obtain ⟨a13, e_a13, hf⟩ := hf
  have sa_a13 := hx_h6 652 _ _ e_a13
  replace hf := ckE hf
  obtain ⟨c14, hf⟩ := hf
  replace hf := ckE hf
  obtain ⟨c15, hf⟩ := hf
  replace hf := bnE hf
  obtain ⟨h16, e_h16, hf⟩ := hf
  have hx_h16 := FX_sA hx_h6 e_h16
  have ef_h16 := EF_sA ef_h6 e_h16 (f := 652) (by decide) sa_a13
  replace hf := nnE hf
  obtain ⟨a18, e_a18, hf⟩ := hf
  have sa_a18 := hx_h16 611 _ _ e_a18
  replace hf := ckE hf
  obtain ⟨c19, hf⟩ := hf
  by_cases c20 : (gA h16 a18 (Int32.toNatClampNeg v7)) = 6
  · replace hf := ifp c20 hf
    replace hf := nnE hf
    obtain ⟨a25, e_a25, hf⟩ := hf
    have sa_a25 := hx_h16 615 _ _ e_a25
    replace hf := ckE hf
    obtain ⟨c26, hf⟩ := hf
    exact EFj ef_h16 (eX6_goOnPacked_66 F d _ _ _ _ _ _ _ _ hx_h16 hf)
  · replace hf := ifn c20 hf
    replace hf := nnE hf
    obtain ⟨a22, e_a22, hf⟩ := hf
    have sa_a22 := hx_h16 637 _ _ e_a22
    replace hf := ckE hf
    obtain ⟨c23, hf⟩ := hf
    exact EFj ef_h16 (eX6_goOnPacked_66 F d _ _ _ _ _ _ _ _ hx_h16 hf)
abbrev S_X6_settle : SS := ([], [], [641], [], [])
set_option maxHeartbeats 4000000 in
theorem eX6_settle_45 (F d : Nat) (k_7 : Nat → Int32 → Hp → Option (Hp)) (hk_7 : ∀ (this : Nat) (x1 : Int32) (h : Hp) (hx : FXs h) {r : Hp}, k_7 this x1 h = some r → FXs r ∧ EF S_X6_settle h r) (this : Nat) (x1 : Int32) (x2 : Int32) (h : Hp) (hx : FXs h) {r : Hp} (hf : fX6_settle_45 F d k_7 this x1 x2 h = some r) : FXs r ∧ EF S_X6_settle h r := by
  unfold fX6_settle_45 at hf
  replace hf := nnE hf
  obtain ⟨a2, e_a2, hf⟩ := hf
  have sa_a2 := hx 641 _ _ e_a2
  replace hf := ckE hf
  obtain ⟨c3, hf⟩ := hf
  replace hf := bnE hf
  obtain ⟨h4, e_h4, hf⟩ := hf
  have hx_h4 := FX_sA hx e_h4
  have ef_h4 := EF_sA (EF.rf (S := S_X6_settle) _) e_h4 (f := 641) (by decide) sa_a2
  replace hf := bnE hf
  obtain ⟨v5, e_v5, hf⟩ := hf
  exact EFj ef_h4 (hk_7 _ _ _ hx_h4 hf)
set_option maxHeartbeats 4000000 in
theorem eX6_settle_15 (F d : Nat) (k_7 : Nat → Int32 → Hp → Option (Hp)) (hk_7 : ∀ (this : Nat) (x1 : Int32) (h : Hp) (hx : FXs h) {r : Hp}, k_7 this x1 h = some r → FXs r ∧ EF S_X6_settle h r) : ∀ (n : Nat) (this : Nat) (x1 : Int32) (x2 : Int32) (h : Hp) (hx : FXs h) {r : Hp}, fX6_settle_15 F d k_7 n this x1 x2 h = some r → FXs r ∧ EF S_X6_settle h r := by
  intro n
  induction n with
  | zero => intro _ _ _ _ _ r hf; cases hf
  | succ n ih =>
    intro this x1 x2 h hx r hf
    unfold fX6_settle_15 at hf
    by_cases c1 : (gI h 634 this) ≤ x2
    · replace hf := ifp c1 hf
      exact EFj (EF.rf (S := S_X6_settle) _) (eX6_settle_45 F d k_7 hk_7 _ _ _ _ hx hf)
    · replace hf := ifn c1 hf
      replace hf := nnE hf
      obtain ⟨a3, e_a3, hf⟩ := hf
      have sa_a3 := hx 639 _ _ e_a3
      replace hf := ckE hf
      obtain ⟨c4, hf⟩ := hf
      by_cases c5 : (gA h a3 (Int32.toNatClampNeg x2)) = x1
      · replace hf := ifp c5 hf
        replace hf := nnE hf
        obtain ⟨a7, e_a7, hf⟩ := hf
        have sa_a7 := hx 641 _ _ e_a7
        replace hf := ckE hf
        obtain ⟨c8, hf⟩ := hf
        replace hf := bnE hf
        obtain ⟨v9, e_v9, hf⟩ := hf
        exact EFj (EF.rf (S := S_X6_settle) _) (ih _ _ _ _ hx hf)
      · replace hf := ifn c5 hf
        exact EFj (EF.rf (S := S_X6_settle) _) (eX6_settle_45 F d k_7 hk_7 _ _ _ _ hx hf)
set_option maxHeartbeats 4000000 in
theorem eX6_settle_7 (F d : Nat) : ∀ (n : Nat) (this : Nat) (x1 : Int32) (h : Hp) (hx : FXs h) {r : Hp}, fX6_settle_7 F d n this x1 h = some r → FXs r ∧ EF S_X6_settle h r := by
  intro n
  induction n with
  | zero => intro _ _ _ _ r hf; cases hf
  | succ n ih =>
    intro this x1 h hx r hf
    unfold fX6_settle_7 at hf
    by_cases c1 : x1 < 0
    · replace hf := ifp c1 hf
      cases hf
      exact ⟨hx, (EF.rf (S := S_X6_settle) _)⟩
    · replace hf := ifn c1 hf
      replace hf := bnE hf
      obtain ⟨v2, e_v2, hf⟩ := hf
      exact EFj (EF.rf (S := S_X6_settle) _) (eX6_settle_15 F d (fX6_settle_7 F d n) ih F _ _ _ _ hx hf)
set_option maxHeartbeats 4000000 in
theorem eX6_settle (F d : Nat) {this : Nat} {h : Hp} (hx : FXs h) {r : Hp} (hf : fX6_settle F d this h = some r) : FXs r ∧ EF S_X6_settle h r := by
  unfold fX6_settle at hf
  replace hf := bnE hf
  obtain ⟨v1, e_v1, hf⟩ := hf
  exact EFj (EF.rf (S := S_X6_settle) _) (eX6_settle_7 F d F _ _ _ hx hf)
abbrev S_X6_isLeft : SS := ([623, 624], [], [625, 626], [], [])
set_option maxHeartbeats 4000000 in
theorem eX6_isLeft (F d : Nat) {this : Nat} {p0 : Int32} {h : Hp} (hx : FXs h) {r : Int32 × Hp} (hf : fX6_isLeft F d this p0 h = some r) : FXs r.2 ∧ EF S_X6_isLeft h r.2 := by
  unfold fX6_isLeft at hf
  replace hf := nnE hf
  obtain ⟨a2, e_a2, hf⟩ := hf
  have sa_a2 := hx 639 _ _ e_a2
  replace hf := ckE hf
  obtain ⟨c3, hf⟩ := hf
  by_cases c4 : 0 ≤ (gA h a2 (Int32.toNatClampNeg p0))
  · replace hf := ifp c4 hf
    replace hf := nnE hf
    obtain ⟨a6, e_a6, hf⟩ := hf
    have sa_a6 := hx 639 _ _ e_a6
    replace hf := ckE hf
    obtain ⟨c7, hf⟩ := hf
    replace hf := caE hf
    obtain ⟨v9, h8, e_h8, hf⟩ := hf
    have q_h8 := EFc (EF.rf (S := S_X6_isLeft) _) (eX6_baseOf F d hx e_h8) (by decide)
    have hx_h8 := q_h8.1
    have ef_h8 := q_h8.2
    replace hf := nnE hf
    obtain ⟨a11, e_a11, hf⟩ := hf
    have sa_a11 := hx_h8 638 _ _ e_a11
    replace hf := ckE hf
    obtain ⟨c12, hf⟩ := hf
    replace hf := bnE hf
    obtain ⟨v13, e_v13, hf⟩ := hf
    replace hf := nnE hf
    obtain ⟨a15, e_a15, hf⟩ := hf
    have sa_a15 := hx_h8 611 _ _ e_a15
    replace hf := ckE hf
    obtain ⟨c16, hf⟩ := hf
    by_cases c17 : (gA h8 a15 (Int32.toNatClampNeg v9)) = 6
    · replace hf := ifp c17 hf
      replace hf := nnE hf
      obtain ⟨a19, e_a19, hf⟩ := hf
      have sa_a19 := hx_h8 621 _ _ e_a19
      replace hf := ckE hf
      obtain ⟨c20, hf⟩ := hf
      by_cases c21 : (gA h8 a19 (Int32.toNatClampNeg v13)) = 2
      · replace hf := ifp c21 hf
        replace hf := nnE hf
        obtain ⟨a23, e_a23, hf⟩ := hf
        have sa_a23 := hx_h8 622 _ _ e_a23
        replace hf := ckE hf
        obtain ⟨c24, hf⟩ := hf
        replace hf := nnE hf
        obtain ⟨a26, e_a26, hf⟩ := hf
        have sa_a26 := hx_h8 637 _ _ e_a26
        replace hf := ckE hf
        obtain ⟨c27, hf⟩ := hf
        by_cases c28 : (gA h8 a23 (Int32.toNatClampNeg v13)) = (gA h8 a26 (Int32.toNatClampNeg p0))
        · replace hf := ifp c28 hf
          cases hf
          exact ⟨hx_h8, ef_h8⟩
        · replace hf := ifn c28 hf
          cases hf
          exact ⟨hx_h8, ef_h8⟩
      · replace hf := ifn c21 hf
        cases hf
        exact ⟨hx_h8, ef_h8⟩
    · replace hf := ifn c17 hf
      cases hf
      exact ⟨hx_h8, ef_h8⟩
  · replace hf := ifn c4 hf
    cases hf
    exact ⟨hx, (EF.rf (S := S_X6_isLeft) _)⟩
abbrev S_X6_make : SS := ([629], [], [633], [], [])
set_option maxHeartbeats 4000000 in
theorem eX6_make (F d : Nat) {this : Nat} {p0 : Int32} {h : Hp} (hx : FXs h) {r : Hp} (hf : fX6_make F d this p0 h = some r) : FXs r ∧ EF S_X6_make h r := by
  unfold fX6_make at hf
  replace hf := bnE hf
  obtain ⟨h1, e_h1, hf⟩ := hf
  have hx_h1 := FX_sI hx e_h1
  have ef_h1 := EF_sI (EF.rf (S := S_X6_make) _) e_h1 (by decide)
  replace hf := nnE hf
  obtain ⟨a3, e_a3, hf⟩ := hf
  have sa_a3 := hx_h1 633 _ _ e_a3
  replace hf := ckE hf
  obtain ⟨c4, hf⟩ := hf
  replace hf := bnE hf
  obtain ⟨h5, e_h5, hf⟩ := hf
  have hx_h5 := FX_sA hx_h1 e_h5
  have ef_h5 := EF_sA ef_h1 e_h5 (f := 633) (by decide) sa_a3
  cases hf
  exact ⟨hx_h5, ef_h5⟩
abbrev S_X6_encode : SS := ([623, 624, 629], [], [625, 626, 633], [], [])
set_option maxHeartbeats 4000000 in
theorem eX6_encode_202 (F d : Nat) (k_118 : Nat → Int32 → Int32 → Hp → Option (Hp)) (hk_118 : ∀ (this : Nat) (x1 : Int32) (x3 : Int32) (h : Hp) (hx : FXs h) {r : Hp}, k_118 this x1 x3 h = some r → FXs r ∧ EF S_X6_encode h r) (this : Nat) (x1 : Int32) (x3 : Int32) (h : Hp) (hx : FXs h) {r : Hp} (hf : fX6_encode_202 F d k_118 this x1 x3 h = some r) : FXs r ∧ EF S_X6_encode h r := by
  unfold fX6_encode_202 at hf
  replace hf := nnE hf
  obtain ⟨a2, e_a2, hf⟩ := hf
  have sa_a2 := hx 625 _ _ e_a2
  replace hf := ckE hf
  obtain ⟨c3, hf⟩ := hf
  replace hf := cvE hf
  obtain ⟨h4, e_h4, hf⟩ := hf
  have q_h4 := EFc (EF.rf (S := S_X6_encode) _) (eX6_make F d hx e_h4) (by decide)
  have hx_h4 := q_h4.1
  have ef_h4 := q_h4.2
  replace hf := bnE hf
  obtain ⟨v6, e_v6, hf⟩ := hf
  exact EFj ef_h4 (hk_118 _ _ _ _ hx_h4 hf)
set_option maxHeartbeats 4000000 in
theorem eX6_encode_187 (F d : Nat) (k_118 : Nat → Int32 → Int32 → Hp → Option (Hp)) (hk_118 : ∀ (this : Nat) (x1 : Int32) (x3 : Int32) (h : Hp) (hx : FXs h) {r : Hp}, k_118 this x1 x3 h = some r → FXs r ∧ EF S_X6_encode h r) (this : Nat) (x1 : Int32) (x3 : Int32) (x4 : Int32) (h : Hp) (hx : FXs h) {r : Hp} (hf : fX6_encode_187 F d k_118 this x1 x3 x4 h = some r) : FXs r ∧ EF S_X6_encode h r := by
  unfold fX6_encode_187 at hf
  by_cases c1 : x4 ≤ 255
  · replace hf := ifp c1 hf
    exact EFj (EF.rf (S := S_X6_encode) _) (eX6_encode_202 F d k_118 hk_118 _ _ _ _ hx hf)
  · replace hf := ifn c1 hf
    replace hf := cvE hf
    obtain ⟨h2, e_h2, hf⟩ := hf
    have q_h2 := EFc (EF.rf (S := S_X6_encode) _) (eX6_make F d hx e_h2) (by decide)
    have hx_h2 := q_h2.1
    have ef_h2 := q_h2.2
    exact EFj ef_h2 (eX6_encode_202 F d k_118 hk_118 _ _ _ _ hx_h2 hf)
set_option maxHeartbeats 4000000 in
theorem eX6_encode_184 (F d : Nat) (k_118 : Nat → Int32 → Int32 → Hp → Option (Hp)) (hk_118 : ∀ (this : Nat) (x1 : Int32) (x3 : Int32) (h : Hp) (hx : FXs h) {r : Hp}, k_118 this x1 x3 h = some r → FXs r ∧ EF S_X6_encode h r) (this : Nat) (x1 : Int32) (x3 : Int32) (x4 : Int32) (s0 : Nat) (s1 : Int32) (h : Hp) (hx : FXs h) {r : Hp} (hf : fX6_encode_184 F d k_118 this x1 x3 x4 s0 s1 h = some r) : FXs r ∧ EF S_X6_encode h r := by
  unfold fX6_encode_184 at hf
  replace hf := cvE hf
  obtain ⟨h1, e_h1, hf⟩ := hf
  have q_h1 := EFc (EF.rf (S := S_X6_encode) _) (eX6_make F d hx e_h1) (by decide)
  have hx_h1 := q_h1.1
  have ef_h1 := q_h1.2
  exact EFj ef_h1 (eX6_encode_187 F d k_118 hk_118 _ _ _ _ _ hx_h1 hf)
set_option maxHeartbeats 4000000 in
theorem eX6_encode_118 (F d : Nat) : ∀ (n : Nat) (this : Nat) (x1 : Int32) (x3 : Int32) (h : Hp) (hx : FXs h) {r : Hp}, fX6_encode_118 F d n this x1 x3 h = some r → FXs r ∧ EF S_X6_encode h r := by
  intro n
  induction n with
  | zero => intro _ _ _ _ _ r hf; cases hf
  | succ n ih =>
    intro this x1 x3 h hx r hf
    unfold fX6_encode_118 at hf
    by_cases c1 : (gI h 624 this) ≤ x3
    · replace hf := ifp c1 hf
      cases hf
      exact ⟨hx, (EF.rf (S := S_X6_encode) _)⟩
    · replace hf := ifn c1 hf
      replace hf := nnE hf
      obtain ⟨a3, e_a3, hf⟩ := hf
      have sa_a3 := hx 642 _ _ e_a3
      replace hf := nnE hf
      obtain ⟨a5, e_a5, hf⟩ := hf
      have sa_a5 := hx 641 _ _ e_a5
      replace hf := ckE hf
      obtain ⟨c6, hf⟩ := hf
      replace hf := ckE hf
      obtain ⟨c7, hf⟩ := hf
      replace hf := bnE hf
      obtain ⟨v8, e_v8, hf⟩ := hf
      replace hf := cvE hf
      obtain ⟨h9, e_h9, hf⟩ := hf
      have q_h9 := EFc (EF.rf (S := S_X6_encode) _) (eX6_make F d hx e_h9) (by decide)
      have hx_h9 := q_h9.1
      have ef_h9 := q_h9.2
      by_cases c11 : v8 ≤ 127
      · replace hf := ifp c11 hf
        exact EFj ef_h9 (eX6_encode_187 F d (fX6_encode_118 F d n) ih _ _ _ _ _ hx_h9 hf)
      · replace hf := ifn c11 hf
        by_cases c12 : v8 ≤ 255
        · replace hf := ifp c12 hf
          exact EFj ef_h9 (eX6_encode_184 F d (fX6_encode_118 F d n) ih _ _ _ _ _ _ _ hx_h9 hf)
        · replace hf := ifn c12 hf
          exact EFj ef_h9 (eX6_encode_184 F d (fX6_encode_118 F d n) ih _ _ _ _ _ _ _ hx_h9 hf)
set_option maxHeartbeats 4000000 in
theorem eX6_encode_116 (F d : Nat) (this : Nat) (x1 : Int32) (h : Hp) (hx : FXs h) {r : Hp} (hf : fX6_encode_116 F d this x1 h = some r) : FXs r ∧ EF S_X6_encode h r := by
  unfold fX6_encode_116 at hf
  exact EFj (EF.rf (S := S_X6_encode) _) (eX6_encode_118 F d F _ _ _ _ hx hf)
set_option maxHeartbeats 4000000 in
theorem eX6_encode_97 (F d : Nat) (this : Nat) (x1 : Int32) (x2 : Int32) (h : Hp) (hx : FXs h) {r : Hp} (hf : fX6_encode_97 F d this x1 x2 h = some r) : FXs r ∧ EF S_X6_encode h r := by
  unfold fX6_encode_97 at hf
  by_cases c1 : x2 = 1
  · replace hf := ifp c1 hf
    replace hf := nnE hf
    obtain ⟨a3, e_a3, hf⟩ := hf
    have sa_a3 := hx 637 _ _ e_a3
    replace hf := ckE hf
    obtain ⟨c4, hf⟩ := hf
    replace hf := cvE hf
    obtain ⟨h5, e_h5, hf⟩ := hf
    have q_h5 := EFc (EF.rf (S := S_X6_encode) _) (eX6_make F d hx e_h5) (by decide)
    have hx_h5 := q_h5.1
    have ef_h5 := q_h5.2
    exact EFj ef_h5 (eX6_encode_116 F d _ _ _ hx_h5 hf)
  · replace hf := ifn c1 hf
    exact EFj (EF.rf (S := S_X6_encode) _) (eX6_encode_116 F d _ _ _ hx hf)
set_option maxHeartbeats 4000000 in
theorem eX6_encode_54 (F d : Nat) : ∀ (n : Nat) (this : Nat) (x1 : Int32) (x2 : Int32) (x3 : Int32) (h : Hp) (hx : FXs h) {r : Hp}, fX6_encode_54 F d n this x1 x2 x3 h = some r → FXs r ∧ EF S_X6_encode h r := by
  intro n
  induction n with
  | zero => intro _ _ _ _ _ _ r hf; cases hf
  | succ n ih =>
    intro this x1 x2 x3 h hx r hf
    unfold fX6_encode_54 at hf
    replace hf := nnE hf
    obtain ⟨a2, e_a2, hf⟩ := hf
    have sa_a2 := hx 637 _ _ e_a2
    replace hf := ckE hf
    obtain ⟨c3, hf⟩ := hf
    replace hf := caE hf
    obtain ⟨v5, h4, e_h4, hf⟩ := hf
    have q_h4 := EFc (EF.rf (S := S_X6_encode) _) (eX6_bytesOf F d hx e_h4) (by decide)
    have hx_h4 := q_h4.1
    have ef_h4 := q_h4.2
    by_cases c6 : v5 ≤ x3
    · replace hf := ifp c6 hf
      exact EFj ef_h4 (eX6_encode_97 F d _ _ _ _ hx_h4 hf)
    · replace hf := ifn c6 hf
      by_cases c7 : x2 = 2
      · replace hf := ifp c7 hf
        replace hf := nnE hf
        obtain ⟨a9, e_a9, hf⟩ := hf
        have sa_a9 := hx_h4 637 _ _ e_a9
        replace hf := ckE hf
        obtain ⟨c10, hf⟩ := hf
        replace hf := cvE hf
        obtain ⟨h11, e_h11, hf⟩ := hf
        have q_h11 := EFc ef_h4 (eX6_make F d hx_h4 e_h11) (by decide)
        have hx_h11 := q_h11.1
        have ef_h11 := q_h11.2
        replace hf := bnE hf
        obtain ⟨v13, e_v13, hf⟩ := hf
        exact EFj ef_h11 (ih _ _ _ _ _ hx_h11 hf)
      · replace hf := ifn c7 hf
        exact EFj ef_h4 (eX6_encode_97 F d _ _ _ _ hx_h4 hf)
set_option maxHeartbeats 4000000 in
theorem eX6_encode_52 (F d : Nat) (this : Nat) (x1 : Int32) (x2 : Int32) (h : Hp) (hx : FXs h) {r : Hp} (hf : fX6_encode_52 F d this x1 x2 h = some r) : FXs r ∧ EF S_X6_encode h r := by
  unfold fX6_encode_52 at hf
  exact EFj (EF.rf (S := S_X6_encode) _) (eX6_encode_54 F d F _ _ _ _ _ hx hf)
set_option maxHeartbeats 4000000 in
theorem eX6_encode_20 (F d : Nat) : ∀ (n : Nat) (this : Nat) (x1 : Int32) (x2 : Int32) (x3 : Int32) (h : Hp) (hx : FXs h) {r : Hp}, fX6_encode_20 F d n this x1 x2 x3 h = some r → FXs r ∧ EF S_X6_encode h r := by
  intro n
  induction n with
  | zero => intro _ _ _ _ _ _ r hf; cases hf
  | succ n ih =>
    intro this x1 x2 x3 h hx r hf
    unfold fX6_encode_20 at hf
    by_cases c1 : x3 < 0
    · replace hf := ifp c1 hf
      exact EFj (EF.rf (S := S_X6_encode) _) (eX6_encode_52 F d _ _ _ _ hx hf)
    · replace hf := ifn c1 hf
      by_cases c2 : x2 = 4
      · replace hf := ifp c2 hf
        replace hf := nnE hf
        obtain ⟨a4, e_a4, hf⟩ := hf
        have sa_a4 := hx 643 _ _ e_a4
        replace hf := nnE hf
        obtain ⟨a6, e_a6, hf⟩ := hf
        have sa_a6 := hx 640 _ _ e_a6
        replace hf := ckE hf
        obtain ⟨c7, hf⟩ := hf
        replace hf := ckE hf
        obtain ⟨c8, hf⟩ := hf
        replace hf := cvE hf
        obtain ⟨h9, e_h9, hf⟩ := hf
        have q_h9 := EFc (EF.rf (S := S_X6_encode) _) (eX6_make F d hx e_h9) (by decide)
        have hx_h9 := q_h9.1
        have ef_h9 := q_h9.2
        replace hf := bnE hf
        obtain ⟨v11, e_v11, hf⟩ := hf
        exact EFj ef_h9 (ih _ _ _ _ _ hx_h9 hf)
      · replace hf := ifn c2 hf
        exact EFj (EF.rf (S := S_X6_encode) _) (eX6_encode_52 F d _ _ _ _ hx hf)
set_option maxHeartbeats 4000000 in
theorem eX6_encode (F d : Nat) {this : Nat} {p0 : Int32} {h : Hp} (hx : FXs h) {r : Hp} (hf : fX6_encode F d this p0 h = some r) : FXs r ∧ EF S_X6_encode h r := by
  unfold fX6_encode at hf
  replace hf := nnE hf
  obtain ⟨a2, e_a2, hf⟩ := hf
  have sa_a2 := hx 611 _ _ e_a2
  replace hf := caE hf
  obtain ⟨v4, h3, e_h3, hf⟩ := hf
  have q_h3 := EFc (EF.rf (S := S_X6_encode) _) (eX6_baseOf F d hx e_h3) (by decide)
  have hx_h3 := q_h3.1
  have ef_h3 := q_h3.2
  replace hf := ckE hf
  obtain ⟨c5, hf⟩ := hf
  replace hf := bnE hf
  obtain ⟨v6, e_v6, hf⟩ := hf
  replace hf := nnE hf
  obtain ⟨a8, e_a8, hf⟩ := hf
  have sa_a8 := hx_h3 637 _ _ e_a8
  replace hf := ckE hf
  obtain ⟨c9, hf⟩ := hf
  replace hf := bnE hf
  obtain ⟨v10, e_v10, hf⟩ := hf
  exact EFj ef_h3 (eX6_encode_20 F d F _ _ _ _ _ hx_h3 hf)
abbrev S_X6_bring : SS := ([630], [], [633], [], [])
set_option maxHeartbeats 4000000 in
theorem eX6_bring_31 (F d : Nat) (k_4 : Nat → Int32 → Int32 → Hp → Option (Hp)) (hk_4 : ∀ (this : Nat) (x1 : Int32) (x3 : Int32) (h : Hp) (hx : FXs h) {r : Hp}, k_4 this x1 x3 h = some r → FXs r ∧ EF S_X6_bring h r) (this : Nat) (x1 : Int32) (x3 : Int32) (h : Hp) (hx : FXs h) {r : Hp} (hf : fX6_bring_31 F d k_4 this x1 x3 h = some r) : FXs r ∧ EF S_X6_bring h r := by
  unfold fX6_bring_31 at hf
  replace hf := nnE hf
  obtain ⟨a2, e_a2, hf⟩ := hf
  have sa_a2 := hx 633 _ _ e_a2
  replace hf := nnE hf
  obtain ⟨a4, e_a4, hf⟩ := hf
  have sa_a4 := hx 633 _ _ e_a4
  replace hf := ckE hf
  obtain ⟨c5, hf⟩ := hf
  replace hf := bnE hf
  obtain ⟨v6, e_v6, hf⟩ := hf
  replace hf := ckE hf
  obtain ⟨c7, hf⟩ := hf
  replace hf := bnE hf
  obtain ⟨h8, e_h8, hf⟩ := hf
  have hx_h8 := FX_sA hx e_h8
  have ef_h8 := EF_sA (EF.rf (S := S_X6_bring) _) e_h8 (f := 633) (by decide) sa_a2
  replace hf := bnE hf
  obtain ⟨h9, e_h9, hf⟩ := hf
  have hx_h9 := FX_sI hx_h8 e_h9
  have ef_h9 := EF_sI ef_h8 e_h9 (by decide)
  replace hf := bnE hf
  obtain ⟨v10, e_v10, hf⟩ := hf
  exact EFj ef_h9 (hk_4 _ _ _ _ hx_h9 hf)
set_option maxHeartbeats 4000000 in
theorem eX6_bring_4 (F d : Nat) : ∀ (n : Nat) (this : Nat) (x1 : Int32) (x3 : Int32) (h : Hp) (hx : FXs h) {r : Hp}, fX6_bring_4 F d n this x1 x3 h = some r → FXs r ∧ EF S_X6_bring h r := by
  intro n
  induction n with
  | zero => intro _ _ _ _ _ r hf; cases hf
  | succ n ih =>
    intro this x1 x3 h hx r hf
    unfold fX6_bring_4 at hf
    by_cases c1 : x3 < 0
    · replace hf := ifp c1 hf
      cases hf
      exact ⟨hx, (EF.rf (S := S_X6_bring) _)⟩
    · replace hf := ifn c1 hf
      replace hf := bnE hf
      obtain ⟨v2, e_v2, hf⟩ := hf
      by_cases c3 : (v2 - v2 / 8 * 8) = 0
      · replace hf := ifp c3 hf
        replace hf := nnE hf
        obtain ⟨a5, e_a5, hf⟩ := hf
        have sa_a5 := hx 633 _ _ e_a5
        replace hf := ckE hf
        obtain ⟨c6, hf⟩ := hf
        replace hf := bnE hf
        obtain ⟨h7, e_h7, hf⟩ := hf
        have hx_h7 := FX_sA hx e_h7
        have ef_h7 := EF_sA (EF.rf (S := S_X6_bring) _) e_h7 (f := 633) (by decide) sa_a5
        exact EFj ef_h7 (eX6_bring_31 F d (fX6_bring_4 F d n) ih _ _ _ _ hx_h7 hf)
      · replace hf := ifn c3 hf
        exact EFj (EF.rf (S := S_X6_bring) _) (eX6_bring_31 F d (fX6_bring_4 F d n) ih _ _ _ _ hx hf)
set_option maxHeartbeats 4000000 in
theorem eX6_bring (F d : Nat) {this : Nat} {p0 : Int32} {p1 : Int32} {h : Hp} (hx : FXs h) {r : Hp} (hf : fX6_bring F d this p0 p1 h = some r) : FXs r ∧ EF S_X6_bring h r := by
  unfold fX6_bring at hf
  replace hf := bnE hf
  obtain ⟨v1, e_v1, hf⟩ := hf
  exact EFj (EF.rf (S := S_X6_bring) _) (eX6_bring_4 F d F _ _ _ _ hx hf)
abbrev S_X6_fill : SS := ([630], [], [], [], [])
set_option maxHeartbeats 4000000 in
theorem eX6_fill (F d : Nat) {this : Nat} {h : Hp} (hx : FXs h) {r : Hp} (hf : fX6_fill F d this h = some r) : FXs r ∧ EF S_X6_fill h r := by
  unfold fX6_fill at hf
  replace hf := bnE hf
  obtain ⟨v1, e_v1, hf⟩ := hf
  by_cases c2 : (v1 - v1 / 8 * 8) ≤ 0
  · replace hf := ifp c2 hf
    cases hf
    exact ⟨hx, (EF.rf (S := S_X6_fill) _)⟩
  · replace hf := ifn c2 hf
    replace hf := bnE hf
    obtain ⟨v3, e_v3, hf⟩ := hf
    replace hf := bnE hf
    obtain ⟨h4, e_h4, hf⟩ := hf
    have hx_h4 := FX_sI hx e_h4
    have ef_h4 := EF_sI (EF.rf (S := S_X6_fill) _) e_h4 (by decide)
    cases hf
    exact ⟨hx_h4, ef_h4⟩
abbrev S_X6_bringOf : SS := ([630], [], [633], [], [])
set_option maxHeartbeats 4000000 in
theorem eX6_bringOf_52 (F d : Nat) (s0 : Nat) (s1 : Int32) (s2 : Int32) (h : Hp) (hx : FXs h) {r : Hp} (hf : fX6_bringOf_52 F d s0 s1 s2 h = some r) : FXs r ∧ EF S_X6_bringOf h r := by
  unfold fX6_bringOf_52 at hf
  replace hf := cvE hf
  obtain ⟨h1, e_h1, hf⟩ := hf
  have q_h1 := EFc (EF.rf (S := S_X6_bringOf) _) (eX6_bring F d hx e_h1) (by decide)
  have hx_h1 := q_h1.1
  have ef_h1 := q_h1.2
  cases hf
  exact ⟨hx_h1, ef_h1⟩
set_option maxHeartbeats 4000000 in
theorem eX6_bringOf_17 (F d : Nat) (this : Nat) (x1 : Int32) (x2 : Int32) (x4 : Int32) (h : Hp) (hx : FXs h) {r : Hp} (hf : fX6_bringOf_17 F d this x1 x2 x4 h = some r) : FXs r ∧ EF S_X6_bringOf h r := by
  unfold fX6_bringOf_17 at hf
  by_cases c1 : 255 ≤ x4
  · replace hf := ifp c1 hf
    by_cases c2 : x4 = 255
    · replace hf := ifp c2 hf
      exact EFj (EF.rf (S := S_X6_bringOf) _) (eX6_bringOf_52 F d _ _ _ _ hx hf)
    · replace hf := ifn c2 hf
      exact EFj (EF.rf (S := S_X6_bringOf) _) (eX6_bringOf_52 F d _ _ _ _ hx hf)
  · replace hf := ifn c1 hf
    replace hf := caE hf
    obtain ⟨v4, h3, e_h3, hf⟩ := hf
    have q_h3 := EFc (EF.rf (S := S_X6_bringOf) _) (eX6_width F d hx e_h3) (by decide)
    have hx_h3 := q_h3.1
    have ef_h3 := q_h3.2
    exact EFj ef_h3 (eX6_bringOf_52 F d _ _ _ _ hx_h3 hf)
set_option maxHeartbeats 4000000 in
theorem eX6_bringOf (F d : Nat) {this : Nat} {p0 : Int32} {p1 : Int32} {p2 : Int32} {h : Hp} (hx : FXs h) {r : Hp} (hf : fX6_bringOf F d this p0 p1 p2 h = some r) : FXs r ∧ EF S_X6_bringOf h r := by
  unfold fX6_bringOf at hf
  replace hf := bnE hf
  obtain ⟨v1, e_v1, hf⟩ := hf
  by_cases c2 : v1 ≤ 254
  · replace hf := ifp c2 hf
    exact EFj (EF.rf (S := S_X6_bringOf) _) (eX6_bringOf_17 F d _ _ _ _ _ hx hf)
  · replace hf := ifn c2 hf
    replace hf := cvE hf
    obtain ⟨h3, e_h3, hf⟩ := hf
    have q_h3 := EFc (EF.rf (S := S_X6_bringOf) _) (eX6_fill F d hx e_h3) (by decide)
    have hx_h3 := q_h3.1
    have ef_h3 := q_h3.2
    exact EFj ef_h3 (eX6_bringOf_17 F d _ _ _ _ _ hx_h3 hf)
abbrev S_X6_bringCount : SS := ([630], [], [633], [], [])
set_option maxHeartbeats 4000000 in
theorem eX6_bringCount_13 (F d : Nat) (this : Nat) (x1 : Int32) (x2 : Int32) (h : Hp) (hx : FXs h) {r : Hp} (hf : fX6_bringCount_13 F d this x1 x2 h = some r) : FXs r ∧ EF S_X6_bringCount h r := by
  unfold fX6_bringCount_13 at hf
  replace hf := nnE hf
  obtain ⟨a2, e_a2, hf⟩ := hf
  have sa_a2 := hx 618 _ _ e_a2
  replace hf := ckE hf
  obtain ⟨c3, hf⟩ := hf
  by_cases c4 : (gA h a2 (Int32.toNatClampNeg x2)) = 0
  · replace hf := ifp c4 hf
    replace hf := cvE hf
    obtain ⟨h5, e_h5, hf⟩ := hf
    have q_h5 := EFc (EF.rf (S := S_X6_bringCount) _) (eX6_bring F d hx e_h5) (by decide)
    have hx_h5 := q_h5.1
    have ef_h5 := q_h5.2
    cases hf
    exact ⟨hx_h5, ef_h5⟩
  · replace hf := ifn c4 hf
    replace hf := nnE hf
    obtain ⟨a8, e_a8, hf⟩ := hf
    have sa_a8 := hx 612 _ _ e_a8
    replace hf := ckE hf
    obtain ⟨c9, hf⟩ := hf
    replace hf := nnE hf
    obtain ⟨a11, e_a11, hf⟩ := hf
    have sa_a11 := hx 613 _ _ e_a11
    replace hf := ckE hf
    obtain ⟨c12, hf⟩ := hf
    replace hf := cvE hf
    obtain ⟨h13, e_h13, hf⟩ := hf
    have q_h13 := EFc (EF.rf (S := S_X6_bringCount) _) (eX6_bringOf F d hx e_h13) (by decide)
    have hx_h13 := q_h13.1
    have ef_h13 := q_h13.2
    cases hf
    exact ⟨hx_h13, ef_h13⟩
set_option maxHeartbeats 4000000 in
theorem eX6_bringCount (F d : Nat) {this : Nat} {p0 : Int32} {p1 : Int32} {h : Hp} (hx : FXs h) {r : Hp} (hf : fX6_bringCount F d this p0 p1 h = some r) : FXs r ∧ EF S_X6_bringCount h r := by
  unfold fX6_bringCount at hf
  replace hf := nnE hf
  obtain ⟨a2, e_a2, hf⟩ := hf
  have sa_a2 := hx 618 _ _ e_a2
  replace hf := ckE hf
  obtain ⟨c3, hf⟩ := hf
  by_cases c4 : (gA h a2 (Int32.toNatClampNeg p1)) = 0
  · replace hf := ifp c4 hf
    replace hf := cvE hf
    obtain ⟨h5, e_h5, hf⟩ := hf
    have q_h5 := EFc (EF.rf (S := S_X6_bringCount) _) (eX6_fill F d hx e_h5) (by decide)
    have hx_h5 := q_h5.1
    have ef_h5 := q_h5.2
    exact EFj ef_h5 (eX6_bringCount_13 F d _ _ _ _ hx_h5 hf)
  · replace hf := ifn c4 hf
    exact EFj (EF.rf (S := S_X6_bringCount) _) (eX6_bringCount_13 F d _ _ _ _ hx hf)
abbrev S_X6_marks : SS := ([623, 624, 630], [], [625, 626, 633], [], [])
set_option maxHeartbeats 4000000 in
theorem eX6_marks_102 (F d : Nat) (k_7 : Nat → Int32 → Int32 → Int32 → Int32 → Hp → Option (Hp)) (hk_7 : ∀ (this : Nat) (x1 : Int32) (x2 : Int32) (x3 : Int32) (x4 : Int32) (h : Hp) (hx : FXs h) {r : Hp}, k_7 this x1 x2 x3 x4 h = some r → FXs r ∧ EF S_X6_marks h r) (this : Nat) (x1 : Int32) (x2 : Int32) (x4 : Int32) (s0 : Int32) (s1 : Int32) (h : Hp) (hx : FXs h) {r : Hp} (hf : fX6_marks_102 F d k_7 this x1 x2 x4 s0 s1 h = some r) : FXs r ∧ EF S_X6_marks h r := by
  unfold fX6_marks_102 at hf
  replace hf := bnE hf
  obtain ⟨v1, e_v1, hf⟩ := hf
  replace hf := bnE hf
  obtain ⟨v2, e_v2, hf⟩ := hf
  exact EFj (EF.rf (S := S_X6_marks) _) (hk_7 _ _ _ _ _ _ hx hf)
set_option maxHeartbeats 4000000 in
theorem eX6_marks_86 (F d : Nat) (k_7 : Nat → Int32 → Int32 → Int32 → Int32 → Hp → Option (Hp)) (hk_7 : ∀ (this : Nat) (x1 : Int32) (x2 : Int32) (x3 : Int32) (x4 : Int32) (h : Hp) (hx : FXs h) {r : Hp}, k_7 this x1 x2 x3 x4 h = some r → FXs r ∧ EF S_X6_marks h r) (this : Nat) (x1 : Int32) (x2 : Int32) (x3 : Int32) (x4 : Int32) (x5 : Int32) (h : Hp) (hx : FXs h) {r : Hp} (hf : fX6_marks_86 F d k_7 this x1 x2 x3 x4 x5 h = some r) : FXs r ∧ EF S_X6_marks h r := by
  unfold fX6_marks_86 at hf
  by_cases c1 : x5 = 0
  · replace hf := ifp c1 hf
    exact EFj (EF.rf (S := S_X6_marks) _) (eX6_marks_102 F d k_7 hk_7 _ _ _ _ _ _ _ hx hf)
  · replace hf := ifn c1 hf
    replace hf := nnE hf
    obtain ⟨a3, e_a3, hf⟩ := hf
    have sa_a3 := hx 641 _ _ e_a3
    replace hf := ckE hf
    obtain ⟨c4, hf⟩ := hf
    exact EFj (EF.rf (S := S_X6_marks) _) (eX6_marks_102 F d k_7 hk_7 _ _ _ _ _ _ _ hx hf)
set_option maxHeartbeats 4000000 in
theorem eX6_marks_82 (F d : Nat) (k_7 : Nat → Int32 → Int32 → Int32 → Int32 → Hp → Option (Hp)) (hk_7 : ∀ (this : Nat) (x1 : Int32) (x2 : Int32) (x3 : Int32) (x4 : Int32) (h : Hp) (hx : FXs h) {r : Hp}, k_7 this x1 x2 x3 x4 h = some r → FXs r ∧ EF S_X6_marks h r) (this : Nat) (x1 : Int32) (x2 : Int32) (x3 : Int32) (x4 : Int32) (x5 : Int32) (s0 : Nat) (s1 : Int32) (h : Hp) (hx : FXs h) {r : Hp} (hf : fX6_marks_82 F d k_7 this x1 x2 x3 x4 x5 s0 s1 h = some r) : FXs r ∧ EF S_X6_marks h r := by
  unfold fX6_marks_82 at hf
  replace hf := cvE hf
  obtain ⟨h1, e_h1, hf⟩ := hf
  have q_h1 := EFc (EF.rf (S := S_X6_marks) _) (eX6_bring F d hx e_h1) (by decide)
  have hx_h1 := q_h1.1
  have ef_h1 := q_h1.2
  exact EFj ef_h1 (eX6_marks_86 F d k_7 hk_7 _ _ _ _ _ _ _ hx_h1 hf)
set_option maxHeartbeats 4000000 in
theorem eX6_marks_81 (F d : Nat) (k_7 : Nat → Int32 → Int32 → Int32 → Int32 → Hp → Option (Hp)) (hk_7 : ∀ (this : Nat) (x1 : Int32) (x2 : Int32) (x3 : Int32) (x4 : Int32) (h : Hp) (hx : FXs h) {r : Hp}, k_7 this x1 x2 x3 x4 h = some r → FXs r ∧ EF S_X6_marks h r) (this : Nat) (x1 : Int32) (x2 : Int32) (x3 : Int32) (x4 : Int32) (x5 : Int32) (s0 : Nat) (h : Hp) (hx : FXs h) {r : Hp} (hf : fX6_marks_81 F d k_7 this x1 x2 x3 x4 x5 s0 h = some r) : FXs r ∧ EF S_X6_marks h r := by
  unfold fX6_marks_81 at hf
  exact EFj (EF.rf (S := S_X6_marks) _) (eX6_marks_82 F d k_7 hk_7 _ _ _ _ _ _ _ _ _ hx hf)
set_option maxHeartbeats 4000000 in
theorem eX6_marks_46 (F d : Nat) (k_7 : Nat → Int32 → Int32 → Int32 → Int32 → Hp → Option (Hp)) (hk_7 : ∀ (this : Nat) (x1 : Int32) (x2 : Int32) (x3 : Int32) (x4 : Int32) (h : Hp) (hx : FXs h) {r : Hp}, k_7 this x1 x2 x3 x4 h = some r → FXs r ∧ EF S_X6_marks h r) (this : Nat) (x1 : Int32) (x2 : Int32) (x3 : Int32) (x4 : Int32) (s0 : Int32) (h : Hp) (hx : FXs h) {r : Hp} (hf : fX6_marks_46 F d k_7 this x1 x2 x3 x4 s0 h = some r) : FXs r ∧ EF S_X6_marks h r := by
  unfold fX6_marks_46 at hf
  replace hf := nnE hf
  obtain ⟨a2, e_a2, hf⟩ := hf
  have sa_a2 := hx 621 _ _ e_a2
  replace hf := ckE hf
  obtain ⟨c3, hf⟩ := hf
  by_cases c4 : (gA h a2 (Int32.toNatClampNeg ((6 * x2) + x4))) = 0
  · replace hf := ifp c4 hf
    exact EFj (EF.rf (S := S_X6_marks) _) (eX6_marks_86 F d k_7 hk_7 _ _ _ _ _ _ _ hx hf)
  · replace hf := ifn c4 hf
    by_cases c5 : s0 = 0
    · replace hf := ifp c5 hf
      exact EFj (EF.rf (S := S_X6_marks) _) (eX6_marks_81 F d k_7 hk_7 _ _ _ _ _ _ _ _ hx hf)
    · replace hf := ifn c5 hf
      replace hf := caE hf
      obtain ⟨v7, h6, e_h6, hf⟩ := hf
      have q_h6 := EFc (EF.rf (S := S_X6_marks) _) (eX6_isLeft F d hx e_h6) (by decide)
      have hx_h6 := q_h6.1
      have ef_h6 := q_h6.2
      by_cases c8 : v7 = 0
      · replace hf := ifp c8 hf
        exact EFj ef_h6 (eX6_marks_82 F d k_7 hk_7 _ _ _ _ _ _ _ _ _ hx_h6 hf)
      · replace hf := ifn c8 hf
        exact EFj ef_h6 (eX6_marks_81 F d k_7 hk_7 _ _ _ _ _ _ _ _ hx_h6 hf)
set_option maxHeartbeats 4000000 in
theorem eX6_marks_45 (F d : Nat) (k_7 : Nat → Int32 → Int32 → Int32 → Int32 → Hp → Option (Hp)) (hk_7 : ∀ (this : Nat) (x1 : Int32) (x2 : Int32) (x3 : Int32) (x4 : Int32) (h : Hp) (hx : FXs h) {r : Hp}, k_7 this x1 x2 x3 x4 h = some r → FXs r ∧ EF S_X6_marks h r) (this : Nat) (x1 : Int32) (x2 : Int32) (x3 : Int32) (x4 : Int32) (h : Hp) (hx : FXs h) {r : Hp} (hf : fX6_marks_45 F d k_7 this x1 x2 x3 x4 h = some r) : FXs r ∧ EF S_X6_marks h r := by
  unfold fX6_marks_45 at hf
  exact EFj (EF.rf (S := S_X6_marks) _) (eX6_marks_46 F d k_7 hk_7 _ _ _ _ _ _ _ hx hf)
set_option maxHeartbeats 4000000 in
theorem eX6_marks_7 (F d : Nat) : ∀ (n : Nat) (this : Nat) (x1 : Int32) (x2 : Int32) (x3 : Int32) (x4 : Int32) (h : Hp) (hx : FXs h) {r : Hp}, fX6_marks_7 F d n this x1 x2 x3 x4 h = some r → FXs r ∧ EF S_X6_marks h r := by
  intro n
  induction n with
  | zero => intro _ _ _ _ _ _ _ r hf; cases hf
  | succ n ih =>
    intro this x1 x2 x3 x4 h hx r hf
    unfold fX6_marks_7 at hf
    replace hf := nnE hf
    obtain ⟨a2, e_a2, hf⟩ := hf
    have sa_a2 := hx 615 _ _ e_a2
    replace hf := ckE hf
    obtain ⟨c3, hf⟩ := hf
    by_cases c4 : (gA h a2 (Int32.toNatClampNeg x2)) ≤ x4
    · replace hf := ifp c4 hf
      cases hf
      exact ⟨hx, (EF.rf (S := S_X6_marks) _)⟩
    · replace hf := ifn c4 hf
      replace hf := nnE hf
      obtain ⟨a6, e_a6, hf⟩ := hf
      have sa_a6 := hx 641 _ _ e_a6
      replace hf := ckE hf
      obtain ⟨c7, hf⟩ := hf
      by_cases c8 : (x1 + (gA h a6 (Int32.toNatClampNeg x1))) ≤ x3
      · replace hf := ifp c8 hf
        exact EFj (EF.rf (S := S_X6_marks) _) (eX6_marks_45 F d (fX6_marks_7 F d n) ih _ _ _ _ _ _ hx hf)
      · replace hf := ifn c8 hf
        replace hf := nnE hf
        obtain ⟨a10, e_a10, hf⟩ := hf
        have sa_a10 := hx 638 _ _ e_a10
        replace hf := ckE hf
        obtain ⟨c11, hf⟩ := hf
        by_cases c12 : (gA h a10 (Int32.toNatClampNeg x3)) = x4
        · replace hf := ifp c12 hf
          exact EFj (EF.rf (S := S_X6_marks) _) (eX6_marks_46 F d (fX6_marks_7 F d n) ih _ _ _ _ _ _ _ hx hf)
        · replace hf := ifn c12 hf
          exact EFj (EF.rf (S := S_X6_marks) _) (eX6_marks_45 F d (fX6_marks_7 F d n) ih _ _ _ _ _ _ hx hf)
set_option maxHeartbeats 4000000 in
theorem eX6_marks (F d : Nat) {this : Nat} {p0 : Int32} {p1 : Int32} {h : Hp} (hx : FXs h) {r : Hp} (hf : fX6_marks F d this p0 p1 h = some r) : FXs r ∧ EF S_X6_marks h r := by
  unfold fX6_marks at hf
  replace hf := bnE hf
  obtain ⟨v1, e_v1, hf⟩ := hf
  exact EFj (EF.rf (S := S_X6_marks) _) (eX6_marks_7 F d F _ _ _ _ _ _ hx hf)
abbrev S_X6_packed : SS := ([623, 624, 630], [], [625, 626, 633], [], [])
set_option maxHeartbeats 4000000 in
theorem eX6_packed_225 (F d : Nat) (this : Nat) (x3 : Int32) (x4 : Int32) (h : Hp) (hx : FXs h) {r : Hp} (hf : fX6_packed_225 F d this x3 x4 h = some r) : FXs r ∧ EF S_X6_packed h r := by
  unfold fX6_packed_225 at hf
  by_cases c1 : x3 = 5
  · replace hf := ifp c1 hf
    cases hf
    exact ⟨hx, (EF.rf (S := S_X6_packed) _)⟩
  · replace hf := ifn c1 hf
    replace hf := cvE hf
    obtain ⟨h2, e_h2, hf⟩ := hf
    have q_h2 := EFc (EF.rf (S := S_X6_packed) _) (eX6_fill F d hx e_h2) (by decide)
    have hx_h2 := q_h2.1
    have ef_h2 := q_h2.2
    replace hf := caE hf
    obtain ⟨v5, h4, e_h4, hf⟩ := hf
    have q_h4 := EFc ef_h2 (eX6_bytesOf F d hx_h2 e_h4) (by decide)
    have hx_h4 := q_h4.1
    have ef_h4 := q_h4.2
    replace hf := cvE hf
    obtain ⟨h6, e_h6, hf⟩ := hf
    have q_h6 := EFc ef_h4 (eX6_bring F d hx_h4 e_h6) (by decide)
    have hx_h6 := q_h6.1
    have ef_h6 := q_h6.2
    replace hf := caE hf
    obtain ⟨v9, h8, e_h8, hf⟩ := hf
    have q_h8 := EFc ef_h6 (eX6_bytesOf F d hx_h6 e_h8) (by decide)
    have hx_h8 := q_h8.1
    have ef_h8 := q_h8.2
    replace hf := cvE hf
    obtain ⟨h10, e_h10, hf⟩ := hf
    have q_h10 := EFc ef_h8 (eX6_bring F d hx_h8 e_h10) (by decide)
    have hx_h10 := q_h10.1
    have ef_h10 := q_h10.2
    cases hf
    exact ⟨hx_h10, ef_h10⟩
set_option maxHeartbeats 4000000 in
theorem eX6_packed_94 (F d : Nat) : ∀ (n : Nat) (this : Nat) (x1 : Int32) (x4 : Int32) (x5 : Int32) (h : Hp) (hx : FXs h) {r : Hp}, fX6_packed_94 F d n this x1 x4 x5 h = some r → FXs r ∧ EF S_X6_packed h r := by
  intro n
  induction n with
  | zero => intro _ _ _ _ _ _ r hf; cases hf
  | succ n ih =>
    intro this x1 x4 x5 h hx r hf
    unfold fX6_packed_94 at hf
    by_cases c1 : x4 ≤ x5
    · replace hf := ifp c1 hf
      cases hf
      exact ⟨hx, (EF.rf (S := S_X6_packed) _)⟩
    · replace hf := ifn c1 hf
      replace hf := nnE hf
      obtain ⟨a3, e_a3, hf⟩ := hf
      have sa_a3 := hx 643 _ _ e_a3
      replace hf := nnE hf
      obtain ⟨a5, e_a5, hf⟩ := hf
      have sa_a5 := hx 640 _ _ e_a5
      replace hf := ckE hf
      obtain ⟨c6, hf⟩ := hf
      replace hf := ckE hf
      obtain ⟨c7, hf⟩ := hf
      replace hf := cvE hf
      obtain ⟨h8, e_h8, hf⟩ := hf
      have q_h8 := EFc (EF.rf (S := S_X6_packed) _) (eX6_bring F d hx e_h8) (by decide)
      have hx_h8 := q_h8.1
      have ef_h8 := q_h8.2
      replace hf := bnE hf
      obtain ⟨v10, e_v10, hf⟩ := hf
      exact EFj ef_h8 (ih _ _ _ _ _ hx_h8 hf)
set_option maxHeartbeats 4000000 in
theorem eX6_packed_91 (F d : Nat) (this : Nat) (x1 : Int32) (x4 : Int32) (h : Hp) (hx : FXs h) {r : Hp} (hf : fX6_packed_91 F d this x1 x4 h = some r) : FXs r ∧ EF S_X6_packed h r := by
  unfold fX6_packed_91 at hf
  exact EFj (EF.rf (S := S_X6_packed) _) (eX6_packed_94 F d F _ _ _ _ _ hx hf)
set_option maxHeartbeats 4000000 in
theorem eX6_packed_87 (F d : Nat) (this : Nat) (x1 : Int32) (x4 : Int32) (h : Hp) (hx : FXs h) {r : Hp} (hf : fX6_packed_87 F d this x1 x4 h = some r) : FXs r ∧ EF S_X6_packed h r := by
  unfold fX6_packed_87 at hf
  replace hf := cvE hf
  obtain ⟨h1, e_h1, hf⟩ := hf
  have q_h1 := EFc (EF.rf (S := S_X6_packed) _) (eX6_fill F d hx e_h1) (by decide)
  have hx_h1 := q_h1.1
  have ef_h1 := q_h1.2
  exact EFj ef_h1 (eX6_packed_91 F d _ _ _ _ hx_h1 hf)
set_option maxHeartbeats 4000000 in
theorem eX6_packed (F d : Nat) {this : Nat} {p0 : Int32} {h : Hp} (hx : FXs h) {r : Hp} (hf : fX6_packed F d this p0 h = some r) : FXs r ∧ EF S_X6_packed h r := by
  unfold fX6_packed at hf
  replace hf := caE hf
  obtain ⟨v2, h1, e_h1, hf⟩ := hf
  have q_h1 := EFc (EF.rf (S := S_X6_packed) _) (eX6_baseOf F d hx e_h1) (by decide)
  have hx_h1 := q_h1.1
  have ef_h1 := q_h1.2
  replace hf := nnE hf
  obtain ⟨a4, e_a4, hf⟩ := hf
  have sa_a4 := hx_h1 611 _ _ e_a4
  replace hf := ckE hf
  obtain ⟨c5, hf⟩ := hf
  replace hf := bnE hf
  obtain ⟨v6, e_v6, hf⟩ := hf
  replace hf := nnE hf
  obtain ⟨a8, e_a8, hf⟩ := hf
  have sa_a8 := hx_h1 637 _ _ e_a8
  replace hf := ckE hf
  obtain ⟨c9, hf⟩ := hf
  replace hf := bnE hf
  obtain ⟨v10, e_v10, hf⟩ := hf
  by_cases c11 : v6 = 1
  · replace hf := ifp c11 hf
    replace hf := cvE hf
    obtain ⟨h58, e_h58, hf⟩ := hf
    have q_h58 := EFc ef_h1 (eX6_bring F d hx_h1 e_h58) (by decide)
    have hx_h58 := q_h58.1
    have ef_h58 := q_h58.2
    cases hf
    exact ⟨hx_h58, ef_h58⟩
  · replace hf := ifn c11 hf
    by_cases c12 : v6 = 4
    · replace hf := ifp c12 hf
      replace hf := cvE hf
      obtain ⟨h40, e_h40, hf⟩ := hf
      have q_h40 := EFc ef_h1 (eX6_bringCount F d hx_h1 e_h40) (by decide)
      have hx_h40 := q_h40.1
      have ef_h40 := q_h40.2
      replace hf := nnE hf
      obtain ⟨a43, e_a43, hf⟩ := hf
      have sa_a43 := hx_h40 618 _ _ e_a43
      replace hf := ckE hf
      obtain ⟨c44, hf⟩ := hf
      by_cases c45 : (gA h40 a43 (Int32.toNatClampNeg v2)) = 0
      · replace hf := ifp c45 hf
        exact EFj ef_h40 (eX6_packed_91 F d _ _ _ _ hx_h40 hf)
      · replace hf := ifn c45 hf
        by_cases c46 : v10 ≤ 0
        · replace hf := ifp c46 hf
          exact EFj ef_h40 (eX6_packed_91 F d _ _ _ _ hx_h40 hf)
        · replace hf := ifn c46 hf
          replace hf := nnE hf
          obtain ⟨a48, e_a48, hf⟩ := hf
          have sa_a48 := hx_h40 612 _ _ e_a48
          replace hf := ckE hf
          obtain ⟨c49, hf⟩ := hf
          replace hf := nnE hf
          obtain ⟨a51, e_a51, hf⟩ := hf
          have sa_a51 := hx_h40 613 _ _ e_a51
          replace hf := ckE hf
          obtain ⟨c52, hf⟩ := hf
          by_cases c53 : (gA h40 a48 (Int32.toNatClampNeg v2)) = (gA h40 a51 (Int32.toNatClampNeg v2))
          · replace hf := ifp c53 hf
            replace hf := nnE hf
            obtain ⟨a55, e_a55, hf⟩ := hf
            have sa_a55 := hx_h40 613 _ _ e_a55
            replace hf := ckE hf
            obtain ⟨c56, hf⟩ := hf
            by_cases c57 : (gA h40 a55 (Int32.toNatClampNeg v2)) ≤ 2
            · replace hf := ifp c57 hf
              exact EFj ef_h40 (eX6_packed_91 F d _ _ _ _ hx_h40 hf)
            · replace hf := ifn c57 hf
              exact EFj ef_h40 (eX6_packed_87 F d _ _ _ _ hx_h40 hf)
          · replace hf := ifn c53 hf
            exact EFj ef_h40 (eX6_packed_87 F d _ _ _ _ hx_h40 hf)
    · replace hf := ifn c12 hf
      by_cases c13 : v6 = 7
      · replace hf := ifp c13 hf
        replace hf := cvE hf
        obtain ⟨h38, e_h38, hf⟩ := hf
        have q_h38 := EFc ef_h1 (eX6_bringCount F d hx_h1 e_h38) (by decide)
        have hx_h38 := q_h38.1
        have ef_h38 := q_h38.2
        cases hf
        exact ⟨hx_h38, ef_h38⟩
      · replace hf := ifn c13 hf
        by_cases c14 : v6 = 9
        · replace hf := ifp c14 hf
          replace hf := caE hf
          obtain ⟨v32, h31, e_h31, hf⟩ := hf
          have q_h31 := EFc ef_h1 (eX6_rank F d hx_h1 e_h31) (by decide)
          have hx_h31 := q_h31.1
          have ef_h31 := q_h31.2
          replace hf := nnE hf
          obtain ⟨a34, e_a34, hf⟩ := hf
          have sa_a34 := hx_h31 615 _ _ e_a34
          replace hf := ckE hf
          obtain ⟨c35, hf⟩ := hf
          replace hf := cvE hf
          obtain ⟨h36, e_h36, hf⟩ := hf
          have q_h36 := EFc ef_h31 (eX6_bringOf F d hx_h31 e_h36) (by decide)
          have hx_h36 := q_h36.1
          have ef_h36 := q_h36.2
          cases hf
          exact ⟨hx_h36, ef_h36⟩
        · replace hf := ifn c14 hf
          by_cases c15 : v6 = 6
          · replace hf := ifp c15 hf
            replace hf := cvE hf
            obtain ⟨h29, e_h29, hf⟩ := hf
            have q_h29 := EFc ef_h1 (eX6_marks F d hx_h1 e_h29) (by decide)
            have hx_h29 := q_h29.1
            have ef_h29 := q_h29.2
            cases hf
            exact ⟨hx_h29, ef_h29⟩
          · replace hf := ifn c15 hf
            by_cases c16 : v6 = 5
            · replace hf := ifp c16 hf
              exact EFj ef_h1 (eX6_packed_225 F d _ _ _ _ hx_h1 hf)
            · replace hf := ifn c16 hf
              replace hf := nnE hf
              obtain ⟨a18, e_a18, hf⟩ := hf
              have sa_a18 := hx_h1 618 _ _ e_a18
              replace hf := ckE hf
              obtain ⟨c19, hf⟩ := hf
              by_cases c20 : (gA h1 a18 (Int32.toNatClampNeg v2)) = 0
              · replace hf := ifp c20 hf
                exact EFj ef_h1 (eX6_packed_225 F d _ _ _ _ hx_h1 hf)
              · replace hf := ifn c20 hf
                replace hf := nnE hf
                obtain ⟨a22, e_a22, hf⟩ := hf
                have sa_a22 := hx_h1 612 _ _ e_a22
                replace hf := ckE hf
                obtain ⟨c23, hf⟩ := hf
                replace hf := nnE hf
                obtain ⟨a25, e_a25, hf⟩ := hf
                have sa_a25 := hx_h1 613 _ _ e_a25
                replace hf := ckE hf
                obtain ⟨c26, hf⟩ := hf
                replace hf := cvE hf
                obtain ⟨h27, e_h27, hf⟩ := hf
                have q_h27 := EFc ef_h1 (eX6_bringOf F d hx_h1 e_h27) (by decide)
                have hx_h27 := q_h27.1
                have ef_h27 := q_h27.2
                cases hf
                exact ⟨hx_h27, ef_h27⟩
abbrev S_X6_write : SS := ([623, 624, 629, 630], [], [625, 626, 633, 642], [], [])
set_option maxHeartbeats 4000000 in
theorem eX6_write_166 (F d : Nat) (this : Nat) (h : Hp) (hx : FXs h) {r : Hp} (hf : fX6_write_166 F d this h = some r) : FXs r ∧ EF S_X6_write h r := by
  unfold fX6_write_166 at hf
  replace hf := bnE hf
  obtain ⟨h1, e_h1, hf⟩ := hf
  have hx_h1 := FX_sI hx e_h1
  have ef_h1 := EF_sI (EF.rf (S := S_X6_write) _) e_h1 (by decide)
  cases hf
  exact ⟨hx_h1, ef_h1⟩
set_option maxHeartbeats 4000000 in
theorem eX6_write_146 (F d : Nat) (k_125 : Nat → Int32 → Hp → Option (Hp)) (hk_125 : ∀ (this : Nat) (x2 : Int32) (h : Hp) (hx : FXs h) {r : Hp}, k_125 this x2 h = some r → FXs r ∧ EF S_X6_write h r) (this : Nat) (x2 : Int32) (h : Hp) (hx : FXs h) {r : Hp} (hf : fX6_write_146 F d k_125 this x2 h = some r) : FXs r ∧ EF S_X6_write h r := by
  unfold fX6_write_146 at hf
  replace hf := bnE hf
  obtain ⟨v1, e_v1, hf⟩ := hf
  exact EFj (EF.rf (S := S_X6_write) _) (hk_125 _ _ _ hx hf)
set_option maxHeartbeats 4000000 in
theorem eX6_write_125 (F d : Nat) : ∀ (n : Nat) (this : Nat) (x2 : Int32) (h : Hp) (hx : FXs h) {r : Hp}, fX6_write_125 F d n this x2 h = some r → FXs r ∧ EF S_X6_write h r := by
  intro n
  induction n with
  | zero => intro _ _ _ _ r hf; cases hf
  | succ n ih =>
    intro this x2 h hx r hf
    unfold fX6_write_125 at hf
    by_cases c1 : (gI h 634 this) ≤ x2
    · replace hf := ifp c1 hf
      by_cases c2 : (gI h 630 this) = 0
      · replace hf := ifp c2 hf
        replace hf := cvE hf
        obtain ⟨h3, e_h3, hf⟩ := hf
        have q_h3 := EFc (EF.rf (S := S_X6_write) _) (eX6_bring F d hx e_h3) (by decide)
        have hx_h3 := q_h3.1
        have ef_h3 := q_h3.2
        exact EFj ef_h3 (eX6_write_166 F d _ _ hx_h3 hf)
      · replace hf := ifn c2 hf
        exact EFj (EF.rf (S := S_X6_write) _) (eX6_write_166 F d _ _ hx hf)
    · replace hf := ifn c1 hf
      replace hf := caE hf
      obtain ⟨v6, h5, e_h5, hf⟩ := hf
      have q_h5 := EFc (EF.rf (S := S_X6_write) _) (eX6_isLeft F d hx e_h5) (by decide)
      have hx_h5 := q_h5.1
      have ef_h5 := q_h5.2
      by_cases c7 : v6 = 0
      · replace hf := ifp c7 hf
        replace hf := cvE hf
        obtain ⟨h8, e_h8, hf⟩ := hf
        have q_h8 := EFc ef_h5 (eX6_packed F d hx_h5 e_h8) (by decide)
        have hx_h8 := q_h8.1
        have ef_h8 := q_h8.2
        exact EFj ef_h8 (eX6_write_146 F d (fX6_write_125 F d n) ih _ _ _ hx_h8 hf)
      · replace hf := ifn c7 hf
        exact EFj ef_h5 (eX6_write_146 F d (fX6_write_125 F d n) ih _ _ _ hx_h5 hf)
set_option maxHeartbeats 4000000 in
theorem eX6_write_75 (F d : Nat) : ∀ (n : Nat) (this : Nat) (x1 : Int32) (x2 : Int32) (h : Hp) (hx : FXs h) {r : Hp}, fX6_write_75 F d n this x1 x2 h = some r → FXs r ∧ EF S_X6_write h r := by
  intro n
  induction n with
  | zero => intro _ _ _ _ _ r hf; cases hf
  | succ n ih =>
    intro this x1 x2 h hx r hf
    unfold fX6_write_75 at hf
    by_cases c1 : 4000 ≤ x2
    · replace hf := ifp c1 hf
      replace hf := bnE hf
      obtain ⟨h2, e_h2, hf⟩ := hf
      have hx_h2 := FX_sI hx e_h2
      have ef_h2 := EF_sI (EF.rf (S := S_X6_write) _) e_h2 (by decide)
      by_cases c3 : x1 = 1
      · replace hf := ifp c3 hf
        cases hf
        exact ⟨hx_h2, ef_h2⟩
      · replace hf := ifn c3 hf
        exact EFj ef_h2 (eX6_write_125 F d F _ _ _ hx_h2 hf)
    · replace hf := ifn c1 hf
      replace hf := nnE hf
      obtain ⟨a5, e_a5, hf⟩ := hf
      have sa_a5 := hx 633 _ _ e_a5
      replace hf := nnE hf
      obtain ⟨a7, e_a7, hf⟩ := hf
      have sa_a7 := hx 633 _ _ e_a7
      replace hf := ckE hf
      obtain ⟨c8, hf⟩ := hf
      replace hf := ckE hf
      obtain ⟨c9, hf⟩ := hf
      replace hf := bnE hf
      obtain ⟨h10, e_h10, hf⟩ := hf
      have hx_h10 := FX_sA hx e_h10
      have ef_h10 := EF_sA (EF.rf (S := S_X6_write) _) e_h10 (f := 633) (by decide) sa_a5
      replace hf := bnE hf
      obtain ⟨v11, e_v11, hf⟩ := hf
      exact EFj ef_h10 (ih _ _ _ _ hx_h10 hf)
set_option maxHeartbeats 4000000 in
theorem eX6_write_70 (F d : Nat) (this : Nat) (x1 : Int32) (h : Hp) (hx : FXs h) {r : Hp} (hf : fX6_write_70 F d this x1 h = some r) : FXs r ∧ EF S_X6_write h r := by
  unfold fX6_write_70 at hf
  replace hf := bnE hf
  obtain ⟨v1, e_v1, hf⟩ := hf
  exact EFj (EF.rf (S := S_X6_write) _) (eX6_write_75 F d F _ _ _ _ hx hf)
set_option maxHeartbeats 4000000 in
theorem eX6_write_54 (F d : Nat) (k_32 : Nat → Int32 → Int32 → Hp → Option (Hp)) (hk_32 : ∀ (this : Nat) (x1 : Int32) (x2 : Int32) (h : Hp) (hx : FXs h) {r : Hp}, k_32 this x1 x2 h = some r → FXs r ∧ EF S_X6_write h r) (this : Nat) (x1 : Int32) (x2 : Int32) (h : Hp) (hx : FXs h) {r : Hp} (hf : fX6_write_54 F d k_32 this x1 x2 h = some r) : FXs r ∧ EF S_X6_write h r := by
  unfold fX6_write_54 at hf
  replace hf := nnE hf
  obtain ⟨a2, e_a2, hf⟩ := hf
  have sa_a2 := hx 642 _ _ e_a2
  replace hf := ckE hf
  obtain ⟨c3, hf⟩ := hf
  replace hf := bnE hf
  obtain ⟨h4, e_h4, hf⟩ := hf
  have hx_h4 := FX_sA hx e_h4
  have ef_h4 := EF_sA (EF.rf (S := S_X6_write) _) e_h4 (f := 642) (by decide) sa_a2
  replace hf := bnE hf
  obtain ⟨v5, e_v5, hf⟩ := hf
  exact EFj ef_h4 (hk_32 _ _ _ _ hx_h4 hf)
set_option maxHeartbeats 4000000 in
theorem eX6_write_32 (F d : Nat) : ∀ (n : Nat) (this : Nat) (x1 : Int32) (x2 : Int32) (h : Hp) (hx : FXs h) {r : Hp}, fX6_write_32 F d n this x1 x2 h = some r → FXs r ∧ EF S_X6_write h r := by
  intro n
  induction n with
  | zero => intro _ _ _ _ _ r hf; cases hf
  | succ n ih =>
    intro this x1 x2 h hx r hf
    unfold fX6_write_32 at hf
    by_cases c1 : x2 < 0
    · replace hf := ifp c1 hf
      exact EFj (EF.rf (S := S_X6_write) _) (eX6_write_70 F d _ _ _ hx hf)
    · replace hf := ifn c1 hf
      by_cases c2 : x1 = 1
      · replace hf := ifp c2 hf
        replace hf := caE hf
        obtain ⟨v4, h3, e_h3, hf⟩ := hf
        have q_h3 := EFc (EF.rf (S := S_X6_write) _) (eX6_isLeft F d hx e_h3) (by decide)
        have hx_h3 := q_h3.1
        have ef_h3 := q_h3.2
        by_cases c5 : v4 = 0
        · replace hf := ifp c5 hf
          replace hf := cvE hf
          obtain ⟨h6, e_h6, hf⟩ := hf
          have q_h6 := EFc ef_h3 (eX6_encode F d hx_h3 e_h6) (by decide)
          have hx_h6 := q_h6.1
          have ef_h6 := q_h6.2
          exact EFj ef_h6 (eX6_write_54 F d (fX6_write_32 F d n) ih _ _ _ _ hx_h6 hf)
        · replace hf := ifn c5 hf
          exact EFj ef_h3 (eX6_write_54 F d (fX6_write_32 F d n) ih _ _ _ _ hx_h3 hf)
      · replace hf := ifn c2 hf
        exact EFj (EF.rf (S := S_X6_write) _) (eX6_write_70 F d _ _ _ hx hf)
set_option maxHeartbeats 4000000 in
theorem eX6_write (F d : Nat) {this : Nat} {p0 : Int32} {h : Hp} (hx : FXs h) {r : Hp} (hf : fX6_write F d this p0 h = some r) : FXs r ∧ EF S_X6_write h r := by
  unfold fX6_write at hf
  replace hf := bnE hf
  obtain ⟨h1, e_h1, hf⟩ := hf
  have hx_h1 := FX_sI hx e_h1
  have ef_h1 := EF_sI (EF.rf (S := S_X6_write) _) e_h1 (by decide)
  replace hf := bnE hf
  obtain ⟨h2, e_h2, hf⟩ := hf
  have hx_h2 := FX_sI hx_h1 e_h2
  have ef_h2 := EF_sI ef_h1 e_h2 (by decide)
  replace hf := nnE hf
  obtain ⟨a4, e_a4, hf⟩ := hf
  have sa_a4 := hx_h2 642 _ _ e_a4
  replace hf := ckE hf
  obtain ⟨c5, hf⟩ := hf
  replace hf := bnE hf
  obtain ⟨h6, e_h6, hf⟩ := hf
  have hx_h6 := FX_sA hx_h2 e_h6
  have ef_h6 := EF_sA ef_h2 e_h6 (f := 642) (by decide) sa_a4
  replace hf := bnE hf
  obtain ⟨v7, e_v7, hf⟩ := hf
  exact EFj ef_h6 (eX6_write_32 F d F _ _ _ _ hx_h6 hf)
abbrev S_X6_isValue : SS := ([623, 624, 629, 630, 634, 635, 647, 648, 649], [], [625, 626, 633, 636, 637, 638, 639, 640, 641, 642, 643, 650, 651, 652, 653, 654], [], [])
set_option maxHeartbeats 4000000 in
theorem eX6_isValue_194 (F d : Nat) (k_158 : Nat → Int32 → Hp → Option (Int32 × Hp)) (hk_158 : ∀ (this : Nat) (x3 : Int32) (h : Hp) (hx : FXs h) {r : Int32 × Hp}, k_158 this x3 h = some r → FXs r.2 ∧ EF S_X6_isValue h r.2) (this : Nat) (x3 : Int32) (s0 : Nat) (s1 : Int32) (h : Hp) (hx : FXs h) {r : Int32 × Hp} (hf : fX6_isValue_194 F d k_158 this x3 s0 s1 h = some r) : FXs r.2 ∧ EF S_X6_isValue h r.2 := by
  unfold fX6_isValue_194 at hf
  replace hf := ckE hf
  obtain ⟨c2, hf⟩ := hf
  replace hf := bnE hf
  obtain ⟨h1, e_h1, hf⟩ := hf
  have hx_h1 := FX_sI hx e_h1
  have ef_h1 := EF_sI (EF.rf (S := S_X6_isValue) _) e_h1 (by decide)
  replace hf := bnE hf
  obtain ⟨v3, e_v3, hf⟩ := hf
  exact EFj ef_h1 (hk_158 _ _ _ hx_h1 hf)
set_option maxHeartbeats 4000000 in
theorem eX6_isValue_158 (F d : Nat) : ∀ (n : Nat) (this : Nat) (x3 : Int32) (h : Hp) (hx : FXs h) {r : Int32 × Hp}, fX6_isValue_158 F d n this x3 h = some r → FXs r.2 ∧ EF S_X6_isValue h r.2 := by
  intro n
  induction n with
  | zero => intro _ _ _ _ r hf; cases hf
  | succ n ih =>
    intro this x3 h hx r hf
    unfold fX6_isValue_158 at hf
    by_cases c1 : (gI h 629 this) ≤ x3
    · replace hf := ifp c1 hf
      replace hf := ckE hf
      obtain ⟨c2, hf⟩ := hf
      cases hf
      exact ⟨hx, (EF.rf (S := S_X6_isValue) _)⟩
    · replace hf := ifn c1 hf
      by_cases c3 : (gI h 649 this) = 0
      · replace hf := ifp c3 hf
        replace hf := ckE hf
        obtain ⟨c4, hf⟩ := hf
        cases hf
        exact ⟨hx, (EF.rf (S := S_X6_isValue) _)⟩
      · replace hf := ifn c3 hf
        replace hf := nnE hf
        obtain ⟨a6, e_a6, hf⟩ := hf
        have sa_a6 := hx 633 _ _ e_a6
        replace hf := ckE hf
        obtain ⟨c7, hf⟩ := hf
        replace hf := nnE hf
        obtain ⟨a9, e_a9, hf⟩ := hf
        have sa_a9 := hx 632 _ _ e_a9
        replace hf := ckE hf
        obtain ⟨c10, hf⟩ := hf
        by_cases c11 : (gA h a6 (Int32.toNatClampNeg x3)) = (gA h a9 (Int32.toNatClampNeg x3))
        · replace hf := ifp c11 hf
          exact EFj (EF.rf (S := S_X6_isValue) _) (eX6_isValue_194 F d (fX6_isValue_158 F d n) ih _ _ _ _ _ hx hf)
        · replace hf := ifn c11 hf
          exact EFj (EF.rf (S := S_X6_isValue) _) (eX6_isValue_194 F d (fX6_isValue_158 F d n) ih _ _ _ _ _ hx hf)
set_option maxHeartbeats 4000000 in
theorem eX6_isValue_153 (F d : Nat) (this : Nat) (s0 : Nat) (s1 : Int32) (h : Hp) (hx : FXs h) {r : Int32 × Hp} (hf : fX6_isValue_153 F d this s0 s1 h = some r) : FXs r.2 ∧ EF S_X6_isValue h r.2 := by
  unfold fX6_isValue_153 at hf
  replace hf := ckE hf
  obtain ⟨c2, hf⟩ := hf
  replace hf := bnE hf
  obtain ⟨h1, e_h1, hf⟩ := hf
  have hx_h1 := FX_sI hx e_h1
  have ef_h1 := EF_sI (EF.rf (S := S_X6_isValue) _) e_h1 (by decide)
  exact EFj ef_h1 (eX6_isValue_158 F d F _ _ _ hx_h1 hf)
set_option maxHeartbeats 4000000 in
theorem eX6_isValue_109 (F d : Nat) (this : Nat) (x2 : Int32) (s0 : Nat) (s1 : Int32) (h : Hp) (hx : FXs h) {r : Int32 × Hp} (hf : fX6_isValue_109 F d this x2 s0 s1 h = some r) : FXs r.2 ∧ EF S_X6_isValue h r.2 := by
  unfold fX6_isValue_109 at hf
  replace hf := ckE hf
  obtain ⟨c2, hf⟩ := hf
  replace hf := bnE hf
  obtain ⟨h1, e_h1, hf⟩ := hf
  have hx_h1 := FX_sI hx e_h1
  have ef_h1 := EF_sI (EF.rf (S := S_X6_isValue) _) e_h1 (by decide)
  by_cases c3 : (gI h1 649 this) = 0
  · replace hf := ifp c3 hf
    cases hf
    exact ⟨hx_h1, ef_h1⟩
  · replace hf := ifn c3 hf
    replace hf := cvE hf
    obtain ⟨h4, e_h4, hf⟩ := hf
    have q_h4 := EFc ef_h1 (eX6_settle F d hx_h1 e_h4) (by decide)
    have hx_h4 := q_h4.1
    have ef_h4 := q_h4.2
    by_cases c6 : x2 = 0
    · replace hf := ifp c6 hf
      cases hf
      exact ⟨hx_h4, ef_h4⟩
    · replace hf := ifn c6 hf
      replace hf := cvE hf
      obtain ⟨h7, e_h7, hf⟩ := hf
      have q_h7 := EFc ef_h4 (eX6_write F d hx_h4 e_h7) (by decide)
      have hx_h7 := q_h7.1
      have ef_h7 := q_h7.2
      by_cases c9 : (gI h7 629 this) = (gI h7 628 this)
      · replace hf := ifp c9 hf
        exact EFj ef_h7 (eX6_isValue_153 F d _ _ _ _ hx_h7 hf)
      · replace hf := ifn c9 hf
        exact EFj ef_h7 (eX6_isValue_153 F d _ _ _ _ hx_h7 hf)
set_option maxHeartbeats 4000000 in
theorem eX6_isValue_108 (F d : Nat) (this : Nat) (x2 : Int32) (s0 : Nat) (h : Hp) (hx : FXs h) {r : Int32 × Hp} (hf : fX6_isValue_108 F d this x2 s0 h = some r) : FXs r.2 ∧ EF S_X6_isValue h r.2 := by
  unfold fX6_isValue_108 at hf
  exact EFj (EF.rf (S := S_X6_isValue) _) (eX6_isValue_109 F d _ _ _ _ _ hx hf)
set_option maxHeartbeats 4000000 in
theorem eX6_isValue_104 (F d : Nat) (this : Nat) (x2 : Int32) (s0 : Nat) (h : Hp) (hx : FXs h) {r : Int32 × Hp} (hf : fX6_isValue_104 F d this x2 s0 h = some r) : FXs r.2 ∧ EF S_X6_isValue h r.2 := by
  unfold fX6_isValue_104 at hf
  exact EFj (EF.rf (S := S_X6_isValue) _) (eX6_isValue_109 F d _ _ _ _ _ hx hf)
set_option maxHeartbeats 4000000 in
theorem eX6_isValue_80 (F d : Nat) (this : Nat) (x2 : Int32) (h : Hp) (hx : FXs h) {r : Int32 × Hp} (hf : fX6_isValue_80 F d this x2 h = some r) : FXs r.2 ∧ EF S_X6_isValue h r.2 := by
  unfold fX6_isValue_80 at hf
  by_cases c1 : (gI h 649 this) = 0
  · replace hf := ifp c1 hf
    exact EFj (EF.rf (S := S_X6_isValue) _) (eX6_isValue_108 F d _ _ _ _ hx hf)
  · replace hf := ifn c1 hf
    by_cases c2 : x2 = 2
    · replace hf := ifp c2 hf
      exact EFj (EF.rf (S := S_X6_isValue) _) (eX6_isValue_104 F d _ _ _ _ hx hf)
    · replace hf := ifn c2 hf
      by_cases c3 : (gI h 647 this) = (gI h 628 this)
      · replace hf := ifp c3 hf
        exact EFj (EF.rf (S := S_X6_isValue) _) (eX6_isValue_104 F d _ _ _ _ hx hf)
      · replace hf := ifn c3 hf
        exact EFj (EF.rf (S := S_X6_isValue) _) (eX6_isValue_108 F d _ _ _ _ hx hf)
set_option maxHeartbeats 4000000 in
theorem eX6_isValue_47 (F d : Nat) : ∀ (n : Nat) (this : Nat) (x2 : Int32) (h : Hp) (hx : FXs h) {r : Int32 × Hp}, fX6_isValue_47 F d n this x2 h = some r → FXs r.2 ∧ EF S_X6_isValue h r.2 := by
  intro n
  induction n with
  | zero => intro _ _ _ _ r hf; cases hf
  | succ n ih =>
    intro this x2 h hx r hf
    unfold fX6_isValue_47 at hf
    by_cases c1 : (gI h 649 this) = 0
    · replace hf := ifp c1 hf
      exact EFj (EF.rf (S := S_X6_isValue) _) (eX6_isValue_80 F d _ _ _ hx hf)
    · replace hf := ifn c1 hf
      by_cases c2 : (gI h 648 this) ≤ 0
      · replace hf := ifp c2 hf
        exact EFj (EF.rf (S := S_X6_isValue) _) (eX6_isValue_80 F d _ _ _ hx hf)
      · replace hf := ifn c2 hf
        by_cases c3 : 2 ≤ x2
        · replace hf := ifp c3 hf
          replace hf := cvE hf
          obtain ⟨h4, e_h4, hf⟩ := hf
          have q_h4 := EFc (EF.rf (S := S_X6_isValue) _) (eX6_goOnPacked F d hx e_h4) (by decide)
          have hx_h4 := q_h4.1
          have ef_h4 := q_h4.2
          exact EFj ef_h4 (ih _ _ _ hx_h4 hf)
        · replace hf := ifn c3 hf
          replace hf := cvE hf
          obtain ⟨h6, e_h6, hf⟩ := hf
          have q_h6 := EFc (EF.rf (S := S_X6_isValue) _) (eX6_goOn F d hx e_h6) (by decide)
          have hx_h6 := q_h6.1
          have ef_h6 := q_h6.2
          exact EFj ef_h6 (ih _ _ _ hx_h6 hf)
set_option maxHeartbeats 4000000 in
theorem eX6_isValue (F d : Nat) {this : Nat} {p0 : Int32} {p1 : Int32} {h : Hp} (hx : FXs h) {r : Int32 × Hp} (hf : fX6_isValue F d this p0 p1 h = some r) : FXs r.2 ∧ EF S_X6_isValue h r.2 := by
  unfold fX6_isValue at hf
  replace hf := bnE hf
  obtain ⟨h1, e_h1, hf⟩ := hf
  have hx_h1 := FX_sI hx e_h1
  have ef_h1 := EF_sI (EF.rf (S := S_X6_isValue) _) e_h1 (by decide)
  replace hf := bnE hf
  obtain ⟨h2, e_h2, hf⟩ := hf
  have hx_h2 := FX_sI hx_h1 e_h2
  have ef_h2 := EF_sI ef_h1 e_h2 (by decide)
  replace hf := bnE hf
  obtain ⟨h3, e_h3, hf⟩ := hf
  have hx_h3 := FX_sI hx_h2 e_h3
  have ef_h3 := EF_sI ef_h2 e_h3 (by decide)
  replace hf := bnE hf
  obtain ⟨h4, e_h4, hf⟩ := hf
  have hx_h4 := FX_sI hx_h3 e_h4
  have ef_h4 := EF_sI ef_h3 e_h4 (by decide)
  replace hf := bnE hf
  obtain ⟨h5, e_h5, hf⟩ := hf
  have hx_h5 := FX_sI hx_h4 e_h5
  have ef_h5 := EF_sI ef_h4 e_h5 (by decide)
  by_cases c6 : 2 ≤ p1
  · replace hf := ifp c6 hf
    replace hf := cvE hf
    obtain ⟨h7, e_h7, hf⟩ := hf
    have q_h7 := EFc ef_h5 (eX6_want F d hx_h5 e_h7) (by decide)
    have hx_h7 := q_h7.1
    have ef_h7 := q_h7.2
    exact EFj ef_h7 (eX6_isValue_47 F d F _ _ _ hx_h7 hf)
  · replace hf := ifn c6 hf
    replace hf := cvE hf
    obtain ⟨h9, e_h9, hf⟩ := hf
    have q_h9 := EFc ef_h5 (eX6_element F d hx_h5 e_h9) (by decide)
    have hx_h9 := q_h9.1
    have ef_h9 := q_h9.2
    exact EFj ef_h9 (eX6_isValue_47 F d F _ _ _ hx_h9 hf)
abbrev S_X6_fails : SS := ([600], [], [], [], [])
set_option maxHeartbeats 4000000 in
theorem eX6_fails (F d : Nat) {this : Nat} {p0 : Int32} {h : Hp} (hx : FXs h) {r : Int32 × Hp} (hf : fX6_fails F d this p0 h = some r) : FXs r.2 ∧ EF S_X6_fails h r.2 := by
  unfold fX6_fails at hf
  replace hf := bnE hf
  obtain ⟨h1, e_h1, hf⟩ := hf
  have hx_h1 := FX_sI hx e_h1
  have ef_h1 := EF_sI (EF.rf (S := S_X6_fails) _) e_h1 (by decide)
  cases hf
  exact ⟨hx_h1, ef_h1⟩
abbrev S_X6_keep : SS := ([623, 624, 644], [], [625, 626, 645, 646], [], [])
set_option maxHeartbeats 4000000 in
theorem eX6_keep_108 (F d : Nat) : ∀ (n : Nat) (this : Nat) (x1 : Int32) (h : Hp) (hx : FXs h) {r : Hp}, fX6_keep_108 F d n this x1 h = some r → FXs r ∧ EF S_X6_keep h r := by
  intro n
  induction n with
  | zero => intro _ _ _ _ r hf; cases hf
  | succ n ih =>
    intro this x1 h hx r hf
    unfold fX6_keep_108 at hf
    by_cases c1 : (gI h 635 this) ≤ x1
    · replace hf := ifp c1 hf
      cases hf
      exact ⟨hx, (EF.rf (S := S_X6_keep) _)⟩
    · replace hf := ifn c1 hf
      replace hf := nnE hf
      obtain ⟨a3, e_a3, hf⟩ := hf
      have sa_a3 := hx 646 _ _ e_a3
      replace hf := nnE hf
      obtain ⟨a5, e_a5, hf⟩ := hf
      have sa_a5 := hx 643 _ _ e_a5
      replace hf := ckE hf
      obtain ⟨c6, hf⟩ := hf
      replace hf := ckE hf
      obtain ⟨c7, hf⟩ := hf
      replace hf := bnE hf
      obtain ⟨h8, e_h8, hf⟩ := hf
      have hx_h8 := FX_sA hx e_h8
      have ef_h8 := EF_sA (EF.rf (S := S_X6_keep) _) e_h8 (f := 646) (by decide) sa_a3
      replace hf := bnE hf
      obtain ⟨v9, e_v9, hf⟩ := hf
      exact EFj ef_h8 (ih _ _ _ hx_h8 hf)
set_option maxHeartbeats 4000000 in
theorem eX6_keep_10 (F d : Nat) : ∀ (n : Nat) (this : Nat) (x1 : Int32) (h : Hp) (hx : FXs h) {r : Hp}, fX6_keep_10 F d n this x1 h = some r → FXs r ∧ EF S_X6_keep h r := by
  intro n
  induction n with
  | zero => intro _ _ _ _ r hf; cases hf
  | succ n ih =>
    intro this x1 h hx r hf
    unfold fX6_keep_10 at hf
    by_cases c1 : (gI h 634 this) ≤ x1
    · replace hf := ifp c1 hf
      exact EFj (EF.rf (S := S_X6_keep) _) (eX6_keep_108 F d F _ _ _ hx hf)
    · replace hf := ifn c1 hf
      replace hf := nnE hf
      obtain ⟨a3, e_a3, hf⟩ := hf
      have sa_a3 := hx 645 _ _ e_a3
      replace hf := nnE hf
      obtain ⟨a5, e_a5, hf⟩ := hf
      have sa_a5 := hx 611 _ _ e_a5
      replace hf := caE hf
      obtain ⟨v7, h6, e_h6, hf⟩ := hf
      have q_h6 := EFc (EF.rf (S := S_X6_keep) _) (eX6_baseOf F d hx e_h6) (by decide)
      have hx_h6 := q_h6.1
      have ef_h6 := q_h6.2
      replace hf := ckE hf
      obtain ⟨c8, hf⟩ := hf
      replace hf := ckE hf
      obtain ⟨c9, hf⟩ := hf
      replace hf := bnE hf
      obtain ⟨h10, e_h10, hf⟩ := hf
      have hx_h10 := FX_sA hx_h6 e_h10
      have ef_h10 := EF_sA ef_h6 e_h10 (f := 645) (by decide) sa_a3
      replace hf := nnE hf
      obtain ⟨a12, e_a12, hf⟩ := hf
      have sa_a12 := hx_h10 645 _ _ e_a12
      replace hf := nnE hf
      obtain ⟨a14, e_a14, hf⟩ := hf
      have sa_a14 := hx_h10 637 _ _ e_a14
      replace hf := ckE hf
      obtain ⟨c15, hf⟩ := hf
      replace hf := ckE hf
      obtain ⟨c16, hf⟩ := hf
      replace hf := bnE hf
      obtain ⟨h17, e_h17, hf⟩ := hf
      have hx_h17 := FX_sA hx_h10 e_h17
      have ef_h17 := EF_sA ef_h10 e_h17 (f := 645) (by decide) sa_a12
      replace hf := nnE hf
      obtain ⟨a19, e_a19, hf⟩ := hf
      have sa_a19 := hx_h17 645 _ _ e_a19
      replace hf := nnE hf
      obtain ⟨a21, e_a21, hf⟩ := hf
      have sa_a21 := hx_h17 638 _ _ e_a21
      replace hf := ckE hf
      obtain ⟨c22, hf⟩ := hf
      replace hf := ckE hf
      obtain ⟨c23, hf⟩ := hf
      replace hf := bnE hf
      obtain ⟨h24, e_h24, hf⟩ := hf
      have hx_h24 := FX_sA hx_h17 e_h24
      have ef_h24 := EF_sA ef_h17 e_h24 (f := 645) (by decide) sa_a19
      replace hf := nnE hf
      obtain ⟨a26, e_a26, hf⟩ := hf
      have sa_a26 := hx_h24 645 _ _ e_a26
      replace hf := nnE hf
      obtain ⟨a28, e_a28, hf⟩ := hf
      have sa_a28 := hx_h24 639 _ _ e_a28
      replace hf := ckE hf
      obtain ⟨c29, hf⟩ := hf
      replace hf := ckE hf
      obtain ⟨c30, hf⟩ := hf
      replace hf := bnE hf
      obtain ⟨h31, e_h31, hf⟩ := hf
      have hx_h31 := FX_sA hx_h24 e_h31
      have ef_h31 := EF_sA ef_h24 e_h31 (f := 645) (by decide) sa_a26
      replace hf := nnE hf
      obtain ⟨a33, e_a33, hf⟩ := hf
      have sa_a33 := hx_h31 645 _ _ e_a33
      replace hf := nnE hf
      obtain ⟨a35, e_a35, hf⟩ := hf
      have sa_a35 := hx_h31 640 _ _ e_a35
      replace hf := ckE hf
      obtain ⟨c36, hf⟩ := hf
      replace hf := ckE hf
      obtain ⟨c37, hf⟩ := hf
      replace hf := bnE hf
      obtain ⟨h38, e_h38, hf⟩ := hf
      have hx_h38 := FX_sA hx_h31 e_h38
      have ef_h38 := EF_sA ef_h31 e_h38 (f := 645) (by decide) sa_a33
      replace hf := bnE hf
      obtain ⟨v39, e_v39, hf⟩ := hf
      exact EFj ef_h38 (ih _ _ _ hx_h38 hf)
set_option maxHeartbeats 4000000 in
theorem eX6_keep (F d : Nat) {this : Nat} {h : Hp} (hx : FXs h) {r : Hp} (hf : fX6_keep F d this h = some r) : FXs r ∧ EF S_X6_keep h r := by
  unfold fX6_keep at hf
  replace hf := bnE hf
  obtain ⟨h1, e_h1, hf⟩ := hf
  have hx_h1 := FX_sI hx e_h1
  have ef_h1 := EF_sI (EF.rf (S := S_X6_keep) _) e_h1 (by decide)
  exact EFj ef_h1 (eX6_keep_10 F d F _ _ _ hx_h1 hf)
abbrev S_X6_transcode : SS := ([600, 623, 624, 627, 628, 629, 630, 634, 635, 644, 647, 648, 649], [], [625, 626, 631, 632, 633, 636, 637, 638, 639, 640, 641, 642, 643, 645, 646, 650, 651, 652, 653, 654], [], [])
set_option maxHeartbeats 4000000 in
theorem eX6_transcode_88 (F d : Nat) : ∀ (n : Nat) (this : Nat) (x4 : Int32) (h : Hp) (hx : FXs h) {r : Int32 × Hp}, fX6_transcode_88 F d n this x4 h = some r → FXs r.2 ∧ EF S_X6_transcode h r.2 := by
  intro n
  induction n with
  | zero => intro _ _ _ _ r hf; cases hf
  | succ n ih =>
    intro this x4 h hx r hf
    unfold fX6_transcode_88 at hf
    by_cases c1 : (gI h 629 this) ≤ x4
    · replace hf := ifp c1 hf
      replace hf := bnE hf
      obtain ⟨h2, e_h2, hf⟩ := hf
      have hx_h2 := FX_sI hx e_h2
      have ef_h2 := EF_sI (EF.rf (S := S_X6_transcode) _) e_h2 (by decide)
      cases hf
      exact ⟨hx_h2, ef_h2⟩
    · replace hf := ifn c1 hf
      replace hf := nnE hf
      obtain ⟨a4, e_a4, hf⟩ := hf
      have sa_a4 := hx 631 _ _ e_a4
      replace hf := nnE hf
      obtain ⟨a6, e_a6, hf⟩ := hf
      have sa_a6 := hx 633 _ _ e_a6
      replace hf := ckE hf
      obtain ⟨c7, hf⟩ := hf
      replace hf := ckE hf
      obtain ⟨c8, hf⟩ := hf
      replace hf := bnE hf
      obtain ⟨h9, e_h9, hf⟩ := hf
      have hx_h9 := FX_sA hx e_h9
      have ef_h9 := EF_sA (EF.rf (S := S_X6_transcode) _) e_h9 (f := 631) (by decide) sa_a4
      replace hf := bnE hf
      obtain ⟨v10, e_v10, hf⟩ := hf
      exact EFj ef_h9 (ih _ _ _ hx_h9 hf)
set_option maxHeartbeats 4000000 in
theorem eX6_transcode_25 (F d : Nat) (this : Nat) (x1 : Int32) (x2 : Int32) (x3 : Int32) (s0 : Nat) (s1 : Nat) (s2 : Int32) (h : Hp) (hx : FXs h) {r : Int32 × Hp} (hf : fX6_transcode_25 F d this x1 x2 x3 s0 s1 s2 h = some r) : FXs r.2 ∧ EF S_X6_transcode h r.2 := by
  unfold fX6_transcode_25 at hf
  replace hf := caE hf
  obtain ⟨v2, h1, e_h1, hf⟩ := hf
  have q_h1 := EFc (EF.rf (S := S_X6_transcode) _) (eX6_asked F d hx e_h1) (by decide)
  have hx_h1 := q_h1.1
  have ef_h1 := q_h1.2
  replace hf := bnE hf
  obtain ⟨h3, e_h3, hf⟩ := hf
  have hx_h3 := FX_sI hx_h1 e_h3
  have ef_h3 := EF_sI ef_h1 e_h3 (by decide)
  by_cases c4 : (gI h3 600 this) ≤ 0
  · replace hf := ifp c4 hf
    replace hf := cvE hf
    obtain ⟨h5, e_h5, hf⟩ := hf
    have q_h5 := EFc ef_h3 (eX6_load F d hx_h3 e_h5) (by decide)
    have hx_h5 := q_h5.1
    have ef_h5 := q_h5.2
    replace hf := caE hf
    obtain ⟨v8, h7, e_h7, hf⟩ := hf
    have q_h7 := EFc ef_h5 (eX6_typeOf F d hx_h5 e_h7) (by decide)
    have hx_h7 := q_h7.1
    have ef_h7 := q_h7.2
    replace hf := caE hf
    obtain ⟨v10, h9, e_h9, hf⟩ := hf
    have q_h9 := EFc ef_h7 (eX6_isValue F d hx_h7 e_h9) (by decide)
    have hx_h9 := q_h9.1
    have ef_h9 := q_h9.2
    by_cases c11 : v10 = 0
    · replace hf := ifp c11 hf
      cases hf
      exact ⟨hx_h9, ef_h9⟩
    · replace hf := ifn c11 hf
      replace hf := cvE hf
      obtain ⟨h12, e_h12, hf⟩ := hf
      have q_h12 := EFc ef_h9 (eX6_write F d hx_h9 e_h12) (by decide)
      have hx_h12 := q_h12.1
      have ef_h12 := q_h12.2
      by_cases c14 : (gI h12 629 this) ≤ 120
      · replace hf := ifp c14 hf
        replace hf := cvE hf
        obtain ⟨h15, e_h15, hf⟩ := hf
        have q_h15 := EFc ef_h12 (eX6_keep F d hx_h12 e_h15) (by decide)
        have hx_h15 := q_h15.1
        have ef_h15 := q_h15.2
        exact EFj ef_h15 (eX6_transcode_88 F d F _ _ _ hx_h15 hf)
      · replace hf := ifn c14 hf
        replace hf := caE hf
        obtain ⟨v18, h17, e_h17, hf⟩ := hf
        have q_h17 := EFc ef_h12 (eX6_fails F d hx_h12 e_h17) (by decide)
        have hx_h17 := q_h17.1
        have ef_h17 := q_h17.2
        cases hf
        exact ⟨hx_h17, ef_h17⟩
  · replace hf := ifn c4 hf
    cases hf
    exact ⟨hx_h3, ef_h3⟩
set_option maxHeartbeats 4000000 in
theorem eX6_transcode_24 (F d : Nat) (this : Nat) (x1 : Int32) (x2 : Int32) (x3 : Int32) (s0 : Nat) (s1 : Nat) (h : Hp) (hx : FXs h) {r : Int32 × Hp} (hf : fX6_transcode_24 F d this x1 x2 x3 s0 s1 h = some r) : FXs r.2 ∧ EF S_X6_transcode h r.2 := by
  unfold fX6_transcode_24 at hf
  exact EFj (EF.rf (S := S_X6_transcode) _) (eX6_transcode_25 F d _ _ _ _ _ _ _ _ hx hf)
set_option maxHeartbeats 4000000 in
theorem eX6_transcode (F d : Nat) {this : Nat} {p0 : Int32} {p1 : Int32} {p2 : Int32} {h : Hp} (hx : FXs h) {r : Int32 × Hp} (hf : fX6_transcode F d this p0 p1 p2 h = some r) : FXs r.2 ∧ EF S_X6_transcode h r.2 := by
  unfold fX6_transcode at hf
  replace hf := caE hf
  obtain ⟨v2, h1, e_h1, hf⟩ := hf
  have q_h1 := EFc (EF.rf (S := S_X6_transcode) _) (eX6_in F d hx e_h1) (by decide)
  have hx_h1 := q_h1.1
  have ef_h1 := q_h1.2
  by_cases c3 : v2 = 0
  · replace hf := ifp c3 hf
    exact EFj ef_h1 (eX6_transcode_24 F d _ _ _ _ _ _ _ hx_h1 hf)
  · replace hf := ifn c3 hf
    replace hf := caE hf
    obtain ⟨v5, h4, e_h4, hf⟩ := hf
    have q_h4 := EFc ef_h1 (eX6_in F d hx_h1 e_h4) (by decide)
    have hx_h4 := q_h4.1
    have ef_h4 := q_h4.2
    by_cases c6 : v5 = 0
    · replace hf := ifp c6 hf
      exact EFj ef_h4 (eX6_transcode_24 F d _ _ _ _ _ _ _ hx_h4 hf)
    · replace hf := ifn c6 hf
      exact EFj ef_h4 (eX6_transcode_25 F d _ _ _ _ _ _ _ _ hx_h4 hf)
abbrev S_X6_parts : SS := ([600], [], [], [], [])
set_option maxHeartbeats 4000000 in
theorem eX6_parts (F d : Nat) {this : Nat} {h : Hp} (hx : FXs h) {r : Int32 × Hp} (hf : fX6_parts F d this h = some r) : FXs r.2 ∧ EF S_X6_parts h r.2 := by
  unfold fX6_parts at hf
  replace hf := bnE hf
  obtain ⟨h1, e_h1, hf⟩ := hf
  have hx_h1 := FX_sI hx e_h1
  have ef_h1 := EF_sI (EF.rf (S := S_X6_parts) _) e_h1 (by decide)
  cases hf
  exact ⟨hx_h1, ef_h1⟩
abbrev S_X6_part : SS := ([600], [], [], [], [])
set_option maxHeartbeats 4000000 in
theorem eX6_part_33 (F d : Nat) (this : Nat) (x1 : Int32) (x2 : Int32) (s0 : Nat) (s1 : Int32) (h : Hp) (hx : FXs h) {r : Int32 × Hp} (hf : fX6_part_33 F d this x1 x2 s0 s1 h = some r) : FXs r.2 ∧ EF S_X6_part h r.2 := by
  unfold fX6_part_33 at hf
  replace hf := bnE hf
  obtain ⟨h1, e_h1, hf⟩ := hf
  have hx_h1 := FX_sI hx e_h1
  have ef_h1 := EF_sI (EF.rf (S := S_X6_part) _) e_h1 (by decide)
  by_cases c2 : (gI h1 600 this) ≤ 0
  · replace hf := ifp c2 hf
    replace hf := nnE hf
    obtain ⟨a4, e_a4, hf⟩ := hf
    have sa_a4 := hx_h1 645 _ _ e_a4
    replace hf := ckE hf
    obtain ⟨c5, hf⟩ := hf
    cases hf
    exact ⟨hx_h1, ef_h1⟩
  · replace hf := ifn c2 hf
    cases hf
    exact ⟨hx_h1, ef_h1⟩
set_option maxHeartbeats 4000000 in
theorem eX6_part (F d : Nat) {this : Nat} {p0 : Int32} {p1 : Int32} {h : Hp} (hx : FXs h) {r : Int32 × Hp} (hf : fX6_part F d this p0 p1 h = some r) : FXs r.2 ∧ EF S_X6_part h r.2 := by
  unfold fX6_part at hf
  replace hf := caE hf
  obtain ⟨v2, h1, e_h1, hf⟩ := hf
  have q_h1 := EFc (EF.rf (S := S_X6_part) _) (eX6_in F d hx e_h1) (by decide)
  have hx_h1 := q_h1.1
  have ef_h1 := q_h1.2
  by_cases c3 : v2 = 0
  · replace hf := ifp c3 hf
    exact EFj ef_h1 (eX6_part_33 F d _ _ _ _ _ _ hx_h1 hf)
  · replace hf := ifn c3 hf
    replace hf := caE hf
    obtain ⟨v5, h4, e_h4, hf⟩ := hf
    have q_h4 := EFc ef_h1 (eX6_in F d hx_h1 e_h4) (by decide)
    have hx_h4 := q_h4.1
    have ef_h4 := q_h4.2
    by_cases c6 : v5 = 0
    · replace hf := ifp c6 hf
      exact EFj ef_h4 (eX6_part_33 F d _ _ _ _ _ _ hx_h4 hf)
    · replace hf := ifn c6 hf
      exact EFj ef_h4 (eX6_part_33 F d _ _ _ _ _ _ hx_h4 hf)
abbrev S_X6_octet : SS := ([600], [], [], [], [])
set_option maxHeartbeats 4000000 in
theorem eX6_octet_52 (F d : Nat) (this : Nat) (x1 : Int32) (x2 : Int32) (s0 : Nat) (s1 : Int32) (h : Hp) (hx : FXs h) {r : Int32 × Hp} (hf : fX6_octet_52 F d this x1 x2 s0 s1 h = some r) : FXs r.2 ∧ EF S_X6_octet h r.2 := by
  unfold fX6_octet_52 at hf
  replace hf := bnE hf
  obtain ⟨h1, e_h1, hf⟩ := hf
  have hx_h1 := FX_sI hx e_h1
  have ef_h1 := EF_sI (EF.rf (S := S_X6_octet) _) e_h1 (by decide)
  by_cases c2 : (gI h1 600 this) ≤ 0
  · replace hf := ifp c2 hf
    replace hf := nnE hf
    obtain ⟨a4, e_a4, hf⟩ := hf
    have sa_a4 := hx_h1 646 _ _ e_a4
    replace hf := nnE hf
    obtain ⟨a6, e_a6, hf⟩ := hf
    have sa_a6 := hx_h1 645 _ _ e_a6
    replace hf := ckE hf
    obtain ⟨c7, hf⟩ := hf
    replace hf := ckE hf
    obtain ⟨c8, hf⟩ := hf
    cases hf
    exact ⟨hx_h1, ef_h1⟩
  · replace hf := ifn c2 hf
    cases hf
    exact ⟨hx_h1, ef_h1⟩
set_option maxHeartbeats 4000000 in
theorem eX6_octet_51 (F d : Nat) (this : Nat) (x1 : Int32) (x2 : Int32) (s0 : Nat) (h : Hp) (hx : FXs h) {r : Int32 × Hp} (hf : fX6_octet_51 F d this x1 x2 s0 h = some r) : FXs r.2 ∧ EF S_X6_octet h r.2 := by
  unfold fX6_octet_51 at hf
  exact EFj (EF.rf (S := S_X6_octet) _) (eX6_octet_52 F d _ _ _ _ _ _ hx hf)
set_option maxHeartbeats 4000000 in
theorem eX6_octet (F d : Nat) {this : Nat} {p0 : Int32} {p1 : Int32} {h : Hp} (hx : FXs h) {r : Int32 × Hp} (hf : fX6_octet F d this p0 p1 h = some r) : FXs r.2 ∧ EF S_X6_octet h r.2 := by
  unfold fX6_octet at hf
  replace hf := caE hf
  obtain ⟨v2, h1, e_h1, hf⟩ := hf
  have q_h1 := EFc (EF.rf (S := S_X6_octet) _) (eX6_in F d hx e_h1) (by decide)
  have hx_h1 := q_h1.1
  have ef_h1 := q_h1.2
  by_cases c3 : v2 = 0
  · replace hf := ifp c3 hf
    exact EFj ef_h1 (eX6_octet_51 F d _ _ _ _ _ hx_h1 hf)
  · replace hf := ifn c3 hf
    replace hf := nnE hf
    obtain ⟨a5, e_a5, hf⟩ := hf
    have sa_a5 := hx_h1 645 _ _ e_a5
    replace hf := ckE hf
    obtain ⟨c6, hf⟩ := hf
    by_cases c7 : (gA h1 a5 (Int32.toNatClampNeg (5 * p0))) = 4
    · replace hf := ifp c7 hf
      replace hf := nnE hf
      obtain ⟨a9, e_a9, hf⟩ := hf
      have sa_a9 := hx_h1 645 _ _ e_a9
      replace hf := ckE hf
      obtain ⟨c10, hf⟩ := hf
      replace hf := caE hf
      obtain ⟨v12, h11, e_h11, hf⟩ := hf
      have q_h11 := EFc ef_h1 (eX6_in F d hx_h1 e_h11) (by decide)
      have hx_h11 := q_h11.1
      have ef_h11 := q_h11.2
      by_cases c13 : v12 = 0
      · replace hf := ifp c13 hf
        exact EFj ef_h11 (eX6_octet_51 F d _ _ _ _ _ hx_h11 hf)
      · replace hf := ifn c13 hf
        exact EFj ef_h11 (eX6_octet_52 F d _ _ _ _ _ _ hx_h11 hf)
    · replace hf := ifn c7 hf
      exact EFj ef_h1 (eX6_octet_51 F d _ _ _ _ _ hx_h1 hf)
abbrev S_X6_operation : SS := ([600], [], [655, 656, 657], [], [])
set_option maxHeartbeats 4000000 in
theorem eX6_operation_36 (F d : Nat) (this : Nat) (x1 : Int32) (x2 : Int32) (x3 : Int32) (x4 : Int32) (s0 : Nat) (s1 : Nat) (s2 : Int32) (h : Hp) (hx : FXs h) {r : Hp} (hf : fX6_operation_36 F d this x1 x2 x3 x4 s0 s1 s2 h = some r) : FXs r ∧ EF S_X6_operation h r := by
  unfold fX6_operation_36 at hf
  replace hf := caE hf
  obtain ⟨v2, h1, e_h1, hf⟩ := hf
  have q_h1 := EFc (EF.rf (S := S_X6_operation) _) (eX6_asked F d hx e_h1) (by decide)
  have hx_h1 := q_h1.1
  have ef_h1 := q_h1.2
  replace hf := bnE hf
  obtain ⟨h3, e_h3, hf⟩ := hf
  have hx_h3 := FX_sI hx_h1 e_h3
  have ef_h3 := EF_sI ef_h1 e_h3 (by decide)
  by_cases c4 : (gI h3 600 this) ≤ 0
  · replace hf := ifp c4 hf
    replace hf := nnE hf
    obtain ⟨a6, e_a6, hf⟩ := hf
    have sa_a6 := hx_h3 655 _ _ e_a6
    replace hf := caE hf
    obtain ⟨v8, h7, e_h7, hf⟩ := hf
    have q_h7 := EFc ef_h3 (eX6_typeOf F d hx_h3 e_h7) (by decide)
    have hx_h7 := q_h7.1
    have ef_h7 := q_h7.2
    replace hf := ckE hf
    obtain ⟨c9, hf⟩ := hf
    replace hf := bnE hf
    obtain ⟨h10, e_h10, hf⟩ := hf
    have hx_h10 := FX_sA hx_h7 e_h10
    have ef_h10 := EF_sA ef_h7 e_h10 (f := 655) (by decide) sa_a6
    replace hf := nnE hf
    obtain ⟨a12, e_a12, hf⟩ := hf
    have sa_a12 := hx_h10 656 _ _ e_a12
    replace hf := ckE hf
    obtain ⟨c13, hf⟩ := hf
    replace hf := bnE hf
    obtain ⟨h14, e_h14, hf⟩ := hf
    have hx_h14 := FX_sA hx_h10 e_h14
    have ef_h14 := EF_sA ef_h10 e_h14 (f := 656) (by decide) sa_a12
    replace hf := nnE hf
    obtain ⟨a16, e_a16, hf⟩ := hf
    have sa_a16 := hx_h14 657 _ _ e_a16
    replace hf := ckE hf
    obtain ⟨c17, hf⟩ := hf
    replace hf := bnE hf
    obtain ⟨h18, e_h18, hf⟩ := hf
    have hx_h18 := FX_sA hx_h14 e_h18
    have ef_h18 := EF_sA ef_h14 e_h18 (f := 657) (by decide) sa_a16
    cases hf
    exact ⟨hx_h18, ef_h18⟩
  · replace hf := ifn c4 hf
    cases hf
    exact ⟨hx_h3, ef_h3⟩
set_option maxHeartbeats 4000000 in
theorem eX6_operation_35 (F d : Nat) (this : Nat) (x1 : Int32) (x2 : Int32) (x3 : Int32) (x4 : Int32) (s0 : Nat) (s1 : Nat) (h : Hp) (hx : FXs h) {r : Hp} (hf : fX6_operation_35 F d this x1 x2 x3 x4 s0 s1 h = some r) : FXs r ∧ EF S_X6_operation h r := by
  unfold fX6_operation_35 at hf
  exact EFj (EF.rf (S := S_X6_operation) _) (eX6_operation_36 F d _ _ _ _ _ _ _ _ _ hx hf)
set_option maxHeartbeats 4000000 in
theorem eX6_operation (F d : Nat) {this : Nat} {p0 : Int32} {p1 : Int32} {p2 : Int32} {p3 : Int32} {h : Hp} (hx : FXs h) {r : Hp} (hf : fX6_operation F d this p0 p1 p2 p3 h = some r) : FXs r ∧ EF S_X6_operation h r := by
  unfold fX6_operation at hf
  replace hf := caE hf
  obtain ⟨v2, h1, e_h1, hf⟩ := hf
  have q_h1 := EFc (EF.rf (S := S_X6_operation) _) (eX6_in F d hx e_h1) (by decide)
  have hx_h1 := q_h1.1
  have ef_h1 := q_h1.2
  by_cases c3 : v2 = 0
  · replace hf := ifp c3 hf
    exact EFj ef_h1 (eX6_operation_35 F d _ _ _ _ _ _ _ _ hx_h1 hf)
  · replace hf := ifn c3 hf
    replace hf := caE hf
    obtain ⟨v5, h4, e_h4, hf⟩ := hf
    have q_h4 := EFc ef_h1 (eX6_in F d hx_h1 e_h4) (by decide)
    have hx_h4 := q_h4.1
    have ef_h4 := q_h4.2
    by_cases c6 : v5 = 0
    · replace hf := ifp c6 hf
      exact EFj ef_h4 (eX6_operation_35 F d _ _ _ _ _ _ _ _ hx_h4 hf)
    · replace hf := ifn c6 hf
      replace hf := caE hf
      obtain ⟨v8, h7, e_h7, hf⟩ := hf
      have q_h7 := EFc ef_h4 (eX6_in F d hx_h4 e_h7) (by decide)
      have hx_h7 := q_h7.1
      have ef_h7 := q_h7.2
      by_cases c9 : v8 = 0
      · replace hf := ifp c9 hf
        exact EFj ef_h7 (eX6_operation_35 F d _ _ _ _ _ _ _ _ hx_h7 hf)
      · replace hf := ifn c9 hf
        exact EFj ef_h7 (eX6_operation_36 F d _ _ _ _ _ _ _ _ _ hx_h7 hf)
abbrev S_X6_reply : SS := ([627], [], [631], [], [])
set_option maxHeartbeats 4000000 in
theorem eX6_reply (F d : Nat) {this : Nat} {p0 : Int32} {p1 : Int32} {p2 : Int32} {p3 : Int32} {h : Hp} (hx : FXs h) {r : Int32 × Hp} (hf : fX6_reply F d this p0 p1 p2 p3 h = some r) : FXs r.2 ∧ EF S_X6_reply h r.2 := by
  unfold fX6_reply at hf
  replace hf := nnE hf
  obtain ⟨a2, e_a2, hf⟩ := hf
  have sa_a2 := hx 631 _ _ e_a2
  replace hf := ckE hf
  obtain ⟨c3, hf⟩ := hf
  replace hf := bnE hf
  obtain ⟨h4, e_h4, hf⟩ := hf
  have hx_h4 := FX_sA hx e_h4
  have ef_h4 := EF_sA (EF.rf (S := S_X6_reply) _) e_h4 (f := 631) (by decide) sa_a2
  replace hf := nnE hf
  obtain ⟨a6, e_a6, hf⟩ := hf
  have sa_a6 := hx_h4 631 _ _ e_a6
  replace hf := ckE hf
  obtain ⟨c7, hf⟩ := hf
  replace hf := bnE hf
  obtain ⟨h8, e_h8, hf⟩ := hf
  have hx_h8 := FX_sA hx_h4 e_h8
  have ef_h8 := EF_sA ef_h4 e_h8 (f := 631) (by decide) sa_a6
  replace hf := nnE hf
  obtain ⟨a10, e_a10, hf⟩ := hf
  have sa_a10 := hx_h8 631 _ _ e_a10
  replace hf := ckE hf
  obtain ⟨c11, hf⟩ := hf
  replace hf := bnE hf
  obtain ⟨h12, e_h12, hf⟩ := hf
  have hx_h12 := FX_sA hx_h8 e_h12
  have ef_h12 := EF_sA ef_h8 e_h12 (f := 631) (by decide) sa_a10
  replace hf := bnE hf
  obtain ⟨h13, e_h13, hf⟩ := hf
  have hx_h13 := FX_sI hx_h12 e_h13
  have ef_h13 := EF_sI ef_h12 e_h13 (by decide)
  cases hf
  exact ⟨hx_h13, ef_h13⟩
abbrev S_X6_serve : SS := ([600, 623, 624, 627, 628, 629, 630, 634, 635, 644, 647, 648, 649], [], [625, 626, 631, 632, 633, 636, 637, 638, 639, 640, 641, 642, 643, 645, 646, 650, 651, 652, 653, 654, 658], [], [])
set_option maxHeartbeats 4000000 in
theorem eX6_serve_204 (F d : Nat) : ∀ (n : Nat) (this : Nat) (x1 : Int32) (x2 : Int32) (x4 : Int32) (h : Hp) (hx : FXs h) {r : Int32 × Hp}, fX6_serve_204 F d n this x1 x2 x4 h = some r → FXs r.2 ∧ EF S_X6_serve h r.2 := by
  intro n
  induction n with
  | zero => intro _ _ _ _ _ _ r hf; cases hf
  | succ n ih =>
    intro this x1 x2 x4 h hx r hf
    unfold fX6_serve_204 at hf
    by_cases c1 : (gI h 629 this) ≤ x4
    · replace hf := ifp c1 hf
      replace hf := caE hf
      obtain ⟨v3, h2, e_h2, hf⟩ := hf
      have q_h2 := EFc (EF.rf (S := S_X6_serve) _) (eX6_reply F d hx e_h2) (by decide)
      have hx_h2 := q_h2.1
      have ef_h2 := q_h2.2
      cases hf
      exact ⟨hx_h2, ef_h2⟩
    · replace hf := ifn c1 hf
      replace hf := nnE hf
      obtain ⟨a5, e_a5, hf⟩ := hf
      have sa_a5 := hx 631 _ _ e_a5
      replace hf := nnE hf
      obtain ⟨a7, e_a7, hf⟩ := hf
      have sa_a7 := hx 633 _ _ e_a7
      replace hf := ckE hf
      obtain ⟨c8, hf⟩ := hf
      replace hf := ckE hf
      obtain ⟨c9, hf⟩ := hf
      replace hf := bnE hf
      obtain ⟨h10, e_h10, hf⟩ := hf
      have hx_h10 := FX_sA hx e_h10
      have ef_h10 := EF_sA (EF.rf (S := S_X6_serve) _) e_h10 (f := 631) (by decide) sa_a5
      replace hf := bnE hf
      obtain ⟨v11, e_v11, hf⟩ := hf
      exact EFj ef_h10 (ih _ _ _ _ _ hx_h10 hf)
set_option maxHeartbeats 4000000 in
theorem eX6_serve_106 (F d : Nat) (this : Nat) (x1 : Int32) (x2 : Int32) (s0 : Int32) (h : Hp) (hx : FXs h) {r : Int32 × Hp} (hf : fX6_serve_106 F d this x1 x2 s0 h = some r) : FXs r.2 ∧ EF S_X6_serve h r.2 := by
  unfold fX6_serve_106 at hf
  by_cases c1 : s0 ≤ 0
  · replace hf := ifp c1 hf
    replace hf := cvE hf
    obtain ⟨h2, e_h2, hf⟩ := hf
    have q_h2 := EFc (EF.rf (S := S_X6_serve) _) (eX6_load F d hx e_h2) (by decide)
    have hx_h2 := q_h2.1
    have ef_h2 := q_h2.2
    replace hf := nnE hf
    obtain ⟨a5, e_a5, hf⟩ := hf
    have sa_a5 := hx_h2 655 _ _ e_a5
    replace hf := ckE hf
    obtain ⟨c6, hf⟩ := hf
    replace hf := nnE hf
    obtain ⟨a8, e_a8, hf⟩ := hf
    have sa_a8 := hx_h2 656 _ _ e_a8
    replace hf := ckE hf
    obtain ⟨c9, hf⟩ := hf
    replace hf := caE hf
    obtain ⟨v11, h10, e_h10, hf⟩ := hf
    have q_h10 := EFc ef_h2 (eX6_isValue F d hx_h2 e_h10) (by decide)
    have hx_h10 := q_h10.1
    have ef_h10 := q_h10.2
    by_cases c12 : v11 = 0
    · replace hf := ifp c12 hf
      replace hf := nnE hf
      obtain ⟨a28, e_a28, hf⟩ := hf
      have sa_a28 := hx_h10 658 _ _ e_a28
      replace hf := ckE hf
      obtain ⟨c29, hf⟩ := hf
      replace hf := bnE hf
      obtain ⟨h30, e_h30, hf⟩ := hf
      have hx_h30 := FX_sA hx_h10 e_h30
      have ef_h30 := EF_sA ef_h10 e_h30 (f := 658) (by decide) sa_a28
      replace hf := caE hf
      obtain ⟨v32, h31, e_h31, hf⟩ := hf
      have q_h31 := EFc ef_h30 (eX6_reply F d hx_h30 e_h31) (by decide)
      have hx_h31 := q_h31.1
      have ef_h31 := q_h31.2
      cases hf
      exact ⟨hx_h31, ef_h31⟩
    · replace hf := ifn c12 hf
      replace hf := nnE hf
      obtain ⟨a14, e_a14, hf⟩ := hf
      have sa_a14 := hx_h10 657 _ _ e_a14
      replace hf := ckE hf
      obtain ⟨c15, hf⟩ := hf
      replace hf := cvE hf
      obtain ⟨h16, e_h16, hf⟩ := hf
      have q_h16 := EFc ef_h10 (eX6_write F d hx_h10 e_h16) (by decide)
      have hx_h16 := q_h16.1
      have ef_h16 := q_h16.2
      by_cases c18 : ((gI h16 629 this) + 3) ≤ 120
      · replace hf := ifp c18 hf
        replace hf := nnE hf
        obtain ⟨a20, e_a20, hf⟩ := hf
        have sa_a20 := hx_h16 658 _ _ e_a20
        replace hf := ckE hf
        obtain ⟨c21, hf⟩ := hf
        replace hf := bnE hf
        obtain ⟨h22, e_h22, hf⟩ := hf
        have hx_h22 := FX_sA hx_h16 e_h22
        have ef_h22 := EF_sA ef_h16 e_h22 (f := 658) (by decide) sa_a20
        replace hf := cvE hf
        obtain ⟨h23, e_h23, hf⟩ := hf
        have q_h23 := EFc ef_h22 (eX6_keep F d hx_h22 e_h23) (by decide)
        have hx_h23 := q_h23.1
        have ef_h23 := q_h23.2
        exact EFj ef_h23 (eX6_serve_204 F d F _ _ _ _ _ hx_h23 hf)
      · replace hf := ifn c18 hf
        replace hf := caE hf
        obtain ⟨v26, h25, e_h25, hf⟩ := hf
        have q_h25 := EFc ef_h16 (eX6_reply F d hx_h16 e_h25) (by decide)
        have hx_h25 := q_h25.1
        have ef_h25 := q_h25.2
        cases hf
        exact ⟨hx_h25, ef_h25⟩
  · replace hf := ifn c1 hf
    replace hf := caE hf
    obtain ⟨v34, h33, e_h33, hf⟩ := hf
    have q_h33 := EFc (EF.rf (S := S_X6_serve) _) (eX6_reply F d hx e_h33) (by decide)
    have hx_h33 := q_h33.1
    have ef_h33 := q_h33.2
    cases hf
    exact ⟨hx_h33, ef_h33⟩
set_option maxHeartbeats 4000000 in
theorem eX6_serve_69 (F d : Nat) (this : Nat) (x1 : Int32) (x2 : Int32) (h : Hp) (hx : FXs h) {r : Int32 × Hp} (hf : fX6_serve_69 F d this x1 x2 h = some r) : FXs r.2 ∧ EF S_X6_serve h r.2 := by
  unfold fX6_serve_69 at hf
  exact EFj (EF.rf (S := S_X6_serve) _) (eX6_serve_106 F d _ _ _ _ _ hx hf)
set_option maxHeartbeats 4000000 in
theorem eX6_serve_88 (F d : Nat) (this : Nat) (x1 : Int32) (x2 : Int32) (h : Hp) (hx : FXs h) {r : Int32 × Hp} (hf : fX6_serve_88 F d this x1 x2 h = some r) : FXs r.2 ∧ EF S_X6_serve h r.2 := by
  unfold fX6_serve_88 at hf
  exact EFj (EF.rf (S := S_X6_serve) _) (eX6_serve_106 F d _ _ _ _ _ hx hf)
set_option maxHeartbeats 4000000 in
theorem eX6_serve_43 (F d : Nat) (this : Nat) (s0 : Int32) (h : Hp) (hx : FXs h) {r : Int32 × Hp} (hf : fX6_serve_43 F d this s0 h = some r) : FXs r.2 ∧ EF S_X6_serve h r.2 := by
  unfold fX6_serve_43 at hf
  replace hf := nnE hf
  obtain ⟨a2, e_a2, hf⟩ := hf
  have sa_a2 := hx 631 _ _ e_a2
  replace hf := ckE hf
  obtain ⟨c3, hf⟩ := hf
  replace hf := bnE hf
  obtain ⟨v4, e_v4, hf⟩ := hf
  by_cases c5 : (gI h 627 this) < 3
  · replace hf := ifp c5 hf
    exact EFj (EF.rf (S := S_X6_serve) _) (eX6_serve_69 F d _ _ _ _ hx hf)
  · replace hf := ifn c5 hf
    replace hf := nnE hf
    obtain ⟨a7, e_a7, hf⟩ := hf
    have sa_a7 := hx 631 _ _ e_a7
    replace hf := ckE hf
    obtain ⟨c8, hf⟩ := hf
    by_cases c9 : (gA h a7 (Int32.toNatClampNeg 0)) = 1
    · replace hf := ifp c9 hf
      by_cases c10 : 7 < v4
      · replace hf := ifp c10 hf
        exact EFj (EF.rf (S := S_X6_serve) _) (eX6_serve_88 F d _ _ _ _ hx hf)
      · replace hf := ifn c10 hf
        replace hf := nnE hf
        obtain ⟨a12, e_a12, hf⟩ := hf
        have sa_a12 := hx 655 _ _ e_a12
        replace hf := ckE hf
        obtain ⟨c13, hf⟩ := hf
        by_cases c14 : 0 ≤ (gA h a12 (Int32.toNatClampNeg v4))
        · replace hf := ifp c14 hf
          replace hf := nnE hf
          obtain ⟨a16, e_a16, hf⟩ := hf
          have sa_a16 := hx 658 _ _ e_a16
          replace hf := ckE hf
          obtain ⟨c17, hf⟩ := hf
          by_cases c18 : (gA h a16 (Int32.toNatClampNeg s0)) = 0
          · replace hf := ifp c18 hf
            exact EFj (EF.rf (S := S_X6_serve) _) (eX6_serve_106 F d _ _ _ _ _ hx hf)
          · replace hf := ifn c18 hf
            exact EFj (EF.rf (S := S_X6_serve) _) (eX6_serve_106 F d _ _ _ _ _ hx hf)
        · replace hf := ifn c14 hf
          exact EFj (EF.rf (S := S_X6_serve) _) (eX6_serve_88 F d _ _ _ _ hx hf)
    · replace hf := ifn c9 hf
      exact EFj (EF.rf (S := S_X6_serve) _) (eX6_serve_69 F d _ _ _ _ hx hf)
set_option maxHeartbeats 4000000 in
theorem eX6_serve_13 (F d : Nat) (this : Nat) (s0 : Nat) (s1 : Int32) (h : Hp) (hx : FXs h) {r : Int32 × Hp} (hf : fX6_serve_13 F d this s0 s1 h = some r) : FXs r.2 ∧ EF S_X6_serve h r.2 := by
  unfold fX6_serve_13 at hf
  replace hf := bnE hf
  obtain ⟨h1, e_h1, hf⟩ := hf
  have hx_h1 := FX_sI hx e_h1
  have ef_h1 := EF_sI (EF.rf (S := S_X6_serve) _) e_h1 (by decide)
  by_cases c2 : (gI h1 600 this) ≤ 0
  · replace hf := ifp c2 hf
    by_cases c3 : (gI h1 627 this) ≤ 1
    · replace hf := ifp c3 hf
      exact EFj ef_h1 (eX6_serve_43 F d _ _ _ hx_h1 hf)
    · replace hf := ifn c3 hf
      replace hf := nnE hf
      obtain ⟨a5, e_a5, hf⟩ := hf
      have sa_a5 := hx_h1 631 _ _ e_a5
      replace hf := ckE hf
      obtain ⟨c6, hf⟩ := hf
      exact EFj ef_h1 (eX6_serve_43 F d _ _ _ hx_h1 hf)
  · replace hf := ifn c2 hf
    cases hf
    exact ⟨hx_h1, ef_h1⟩
set_option maxHeartbeats 4000000 in
theorem eX6_serve (F d : Nat) {this : Nat} {h : Hp} (hx : FXs h) {r : Int32 × Hp} (hf : fX6_serve F d this h = some r) : FXs r.2 ∧ EF S_X6_serve h r.2 := by
  unfold fX6_serve at hf
  by_cases c1 : (gI h 601 this) = 0
  · replace hf := ifp c1 hf
    exact EFj (EF.rf (S := S_X6_serve) _) (eX6_serve_13 F d _ _ _ _ hx hf)
  · replace hf := ifn c1 hf
    exact EFj (EF.rf (S := S_X6_serve) _) (eX6_serve_13 F d _ _ _ _ hx hf)
