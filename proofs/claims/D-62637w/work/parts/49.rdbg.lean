/-! THE SPEC: what a value begins with -/
set_option maxRecDepth 100000
section Bg
variable {τ : Tb} {b : Nat → Nat}
theorem bitO_tab : ((List.range 10).all fun x => decide (bitO (128 + x) = 2 ^ (20 + x)) && decide (bitO (160 + x) = 2 ^ (20 + x))) = true := by decide
theorem bitO_dig {x : Nat} (hx : x ≤ 9) : bitO (128 + x) = 2 ^ (20 + x) ∧ bitO (160 + x) = 2 ^ (20 + x) := by
  have := List.all_eq_true.mp bitO_tab x (List.mem_range.mpr (by omega))
  simpa using this
theorem hd_bit : ∀ {n t : Nat} {g : Option Nat}, WFt τ n t → ¬ tK τ t = 9 → (∀ y, g = some y → y ≤ 9) → ∃ x xs, tgs τ n t g = x :: xs ∧ x < 256 ∧ bitO x = (match g with | none => tS τ t | some y => 2 ^ (20 + y)) := by
  intro n
  induction n with
  | zero => intro t g w; exact w.elim
  | succ n ih =>
    intro t g w k9 hg
    by_cases k : tK τ t = 10
    · have w1 := w.tag k
      have ws : tS τ t = 2 ^ (20 + tG τ t) := by
        rcases w with ⟨k2, -⟩ | ⟨k2, -⟩ | ⟨k2, -⟩ | ⟨k2, -⟩ | ⟨k2, -⟩ | ⟨k2, -⟩ | ⟨k2, -⟩ | ⟨k2, ws, -⟩ <;> first | (exfalso; omega) | exact ws
      have hy : g.getD (tG τ t) ≤ 9 := by
        cases g with
        | none => exact w1.1
        | some y => exact hg y rfl
      have he : (match g with | none => tS τ t | some y => 2 ^ (20 + y)) = 2 ^ (20 + g.getD (tG τ t)) := by
        cases g with
        | none => exact ws
        | some y => rfl
      unfold tgs
      rw [if_pos k, he]
      by_cases c : tM τ t = true ∧ tK τ (tC τ t 0) ≠ 9
      · rw [if_pos c]
        obtain ⟨x, xs, q1, q2, q3⟩ := ih (g := some (g.getD (tG τ t))) w1.2 c.2 (fun y hy2 => by cases hy2; exact hy)
        exact ⟨x, xs, q1, q2, q3⟩
      · rw [if_neg c]
        exact ⟨_, _, rfl, by omega, (bitO_dig hy).2⟩
    · rw [tgs_ne n t g k k9]
      refine ⟨_, _, rfl, ?_⟩
      rcases w with ⟨k2, ws, -⟩ | ⟨k2, ws, -⟩ | ⟨k2, ws, -⟩ | ⟨k2, ws, -⟩ | ⟨k2, ws, -⟩ | ⟨k2, ws, -⟩ | ⟨k2, -⟩ | ⟨k2, -⟩
      · rw [if_neg (by omega), k2]
        cases g with
        | none => rw [ws]; exact ⟨by decide, rfl⟩
        | some y => have := hg y rfl; exact ⟨by show 128 + y < 256; omega, (bitO_dig this).1⟩
      · rw [if_neg (by omega), k2]
        cases g with
        | none => rw [ws]; exact ⟨by decide, rfl⟩
        | some y => have := hg y rfl; exact ⟨by show 128 + y < 256; omega, (bitO_dig this).1⟩
      · rw [if_neg (by omega), k2]
        cases g with
        | none => rw [ws]; exact ⟨by decide, rfl⟩
        | some y => have := hg y rfl; exact ⟨by show 128 + y < 256; omega, (bitO_dig this).1⟩
      · rw [if_neg (by omega), k2]
        cases g with
        | none => rw [ws]; exact ⟨by decide, rfl⟩
        | some y => have := hg y rfl; exact ⟨by show 128 + y < 256; omega, (bitO_dig this).1⟩
      · rw [if_pos (by omega)]
        cases g with
        | none => rw [ws]; exact ⟨by decide, rfl⟩
        | some y => have := hg y rfl; exact ⟨by show 160 + y < 256; omega, (bitO_dig this).2⟩
      · rw [if_pos (by omega)]
        cases g with
        | none => rw [ws]; exact ⟨by decide, rfl⟩
        | some y => have := hg y rfl; exact ⟨by show 160 + y < 256; omega, (bitO_dig this).2⟩
      · omega
      · omega
theorem rT_hd {α : Type} {k : Nat → Nat → Option (α × Nat)} {x : Nat} {xs : List Nat} {a e : Nat} {r : α × Nat} (h : rT b k (x :: xs) a e = some r) : a < e ∧ b a = x := by
  unfold rT at h
  split at h
  · cases h
  · next q => exact ⟨(ent_le q).2.2.2.2, (ent_le q).2.2.2.1⟩
theorem rd_hd {d t a e m x : Nat} {g : Option Nat} {xs : List Nat} {r : Vt d × Nat} (ht : tgs τ 200 t g = x :: xs) (h : rd b τ d t g a e m = some r) : a < e ∧ b a = x := by
  cases d with
  | zero => cases h
  | succ d =>
    rw [rd, ht] at h
    split at h
    · exact rT_hd h
    · cases xs with
      | nil =>
        change rdIn b τ _ _ x m a e = some r at h
        unfold rdIn at h
        split at h
        · split at h
          · unfold rdSq at h
            split at h
            · cases h
            · next q => exact ⟨(ent_le q).2.2.2.2, (ent_le q).2.2.2.1⟩
          · split at h
            · unfold rdLs at h
              split at h
              · cases h
              · next q => exact ⟨(ent_le q).2.2.2.2, (ent_le q).2.2.2.1⟩
            · unfold rdLf at h
              split at h
              · next q => exact q
              · cases h
        · cases h
      | cons y ys => exact rT_hd h
theorem alt_bit {q bit k : Nat} : ∀ (r i : Nat), alt τ q bit r i = some k → i ≤ k ∧ k < i + r ∧ tS τ (tC τ q k) &&& bit ≠ 0 := by
  intro r
  induction r with
  | zero => intro i h; cases h
  | succ r ih =>
    intro i h
    unfold alt at h
    split at h
    · next c => cases h; exact ⟨Nat.le_refl _, by omega, c⟩
    · have := ih _ h; exact ⟨by omega, by omega, this.2.2⟩
theorem orS_bit {q bit k : Nat} (h : tS τ (tC τ q k) &&& bit ≠ 0) : ∀ n, k < n → orS τ q n &&& bit ≠ 0 := by
  intro n
  induction n with
  | zero => intro hk; omega
  | succ n ih =>
    intro hk
    show (orS τ q n ||| tS τ (tC τ q n)) &&& bit ≠ 0
    rw [Nat.and_or_distrib_right]
    intro z
    have z1 : orS τ q n &&& bit = 0 ∧ tS τ (tC τ q n) &&& bit = 0 := by
      constructor
      · apply Nat.eq_of_testBit_eq; intro i
        have := congrArg (fun y => y.testBit i) z
        simp only [Nat.testBit_or, Nat.zero_testBit, Bool.or_eq_false_iff] at this
        rw [this.1, Nat.zero_testBit]
      · apply Nat.eq_of_testBit_eq; intro i
        have := congrArg (fun y => y.testBit i) z
        simp only [Nat.testBit_or, Nat.zero_testBit, Bool.or_eq_false_iff] at this
        rw [this.2, Nat.zero_testBit]
    by_cases c : k = n
    · rw [c] at h; exact h z1.2
    · exact ih (by omega) z1.1
/-- a value begins with one of its type's tags -/
theorem rd_bg {n d t a e m : Nat} {r : Vt d × Nat} (w : WFt τ n t) (hn : n ≤ 200) (h : rd b τ d t none a e m = some r) : tS τ t &&& bitA b a e ≠ 0 := by
  cases d with
  | zero => cases h
  | succ d =>
    by_cases k9 : tK τ t = 9
    · rw [rd_cho k9] at h
      unfold rdCh at h
      split at h
      · cases h
      · next q =>
        have q1 := alt_bit _ _ q
        cases n with
        | zero => exact w.elim
        | succ n =>
          have ws : tS τ t = orS τ t (tN τ t) := by
            rcases w with ⟨k2, -⟩ | ⟨k2, -⟩ | ⟨k2, -⟩ | ⟨k2, -⟩ | ⟨k2, -⟩ | ⟨k2, -⟩ | ⟨k2, ws, -⟩ | ⟨k2, -⟩ <;> first | (exfalso; omega) | exact ws
          rw [ws]
          exact orS_bit q1.2.2 _ (by omega)
    · obtain ⟨x, xs, q1, q2, q3⟩ := hd_bit (g := none) w k9 (fun y hy => by cases hy)
      rw [← tgs_fuel w hn] at q1
      obtain ⟨h1, h2⟩ := rd_hd q1 h
      unfold bitA
      rw [if_pos h1, h2, q3]
      show tS τ t &&& tS τ t ≠ 0
      rw [Nat.and_self]
      cases n with
      | zero => exact w.elim
      | succ n =>
        rcases w with ⟨k2, ws, -⟩ | ⟨k2, ws, -⟩ | ⟨k2, ws, -⟩ | ⟨k2, ws, -⟩ | ⟨k2, ws, -⟩ | ⟨k2, ws, -⟩ | ⟨k2, -⟩ | ⟨k2, ws, -⟩ <;> first | (exfalso; omega) | (rw [ws]; decide) | (rw [ws]; exact Nat.ne_of_gt (Nat.pow_pos (by decide)))
end Bg
