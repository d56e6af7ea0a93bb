/-! THE SPEC, unfolded by the kinds of types -/
set_option maxRecDepth 100000
section Rl
variable {τ : Tb}
theorem bas_ne {n t : Nat} (k : ¬ tK τ t = 10) : bas τ n t = t := by
  cases n with
  | zero => rfl
  | succ n => unfold bas; rw [if_neg k]
theorem bas_fuel : ∀ {n t m : Nat}, WFt τ n t → n ≤ m → bas τ m t = bas τ n t := by
  intro n
  induction n with
  | zero => intro t m w; exact w.elim
  | succ n ih =>
    intro t m w hm
    by_cases k : tK τ t = 10
    · cases m with
      | zero => omega
      | succ m =>
        unfold bas
        rw [if_pos k, if_pos k]
        rcases w with ⟨k2, -⟩ | ⟨k2, -⟩ | ⟨k2, -⟩ | ⟨k2, -⟩ | ⟨k2, -⟩ | ⟨k2, -⟩ | ⟨k2, -⟩ | ⟨k2, -, -, w⟩ <;> first | (exfalso; omega) | skip
        exact ih w (by omega)
    · rw [bas_ne k, bas_ne k]
theorem tgs_fuel : ∀ {n t m : Nat} {g : Option Nat}, WFt τ n t → n ≤ m → tgs τ m t g = tgs τ n t g := by
  intro n
  induction n with
  | zero => intro t m g w; exact w.elim
  | succ n ih =>
    intro t m g w hm
    cases m with
    | zero => omega
    | succ m =>
      unfold tgs
      by_cases k : tK τ t = 10
      · rcases w with ⟨k2, -⟩ | ⟨k2, -⟩ | ⟨k2, -⟩ | ⟨k2, -⟩ | ⟨k2, -⟩ | ⟨k2, -⟩ | ⟨k2, -⟩ | ⟨k2, -, -, w⟩ <;> first | (exfalso; omega) | skip
        rw [if_pos k, if_pos k, ih (g := some _) w (by omega), ih (g := none) w (by omega)]
      · rw [if_neg k, if_neg k]
theorem WFt.tag {n t : Nat} (w : WFt τ (n + 1) t) (k : tK τ t = 10) : tG τ t ≤ 9 ∧ WFt τ n (tC τ t 0) := by
  rcases w with ⟨k2, -⟩ | ⟨k2, -⟩ | ⟨k2, -⟩ | ⟨k2, -⟩ | ⟨k2, -⟩ | ⟨k2, -⟩ | ⟨k2, -⟩ | ⟨k2, -, w1, w⟩ <;> first | (exfalso; omega) | skip
  exact ⟨w1, w⟩
theorem WFt_bas {n t : Nat} : WFt τ n t → ¬ tK τ (bas τ n t) = 10 := by
  revert t
  induction n with
  | zero => intro t w; exact w.elim
  | succ n ih =>
    intro t w
    by_cases k : tK τ t = 10
    · rw [show bas τ (n + 1) t = if tK τ t = 10 then bas τ n (tC τ t 0) else t from rfl, if_pos k]
      exact ih (w.tag k).2
    · rw [bas_ne k]; exact k
theorem bas_tag {n t : Nat} (w : WFt τ (n + 1) t) (k : tK τ t = 10) (hn : n < 200) : bas τ 200 t = bas τ 200 (tC τ t 0) := by
  have w2 := (w.tag k).2
  rw [show bas τ 200 t = if tK τ t = 10 then bas τ 199 (tC τ t 0) else t from rfl, if_pos k, bas_fuel w2 (show n ≤ 199 by omega), bas_fuel w2 (show n ≤ 200 by omega)]
theorem tgs_tag {n t : Nat} (w : WFt τ (n + 1) t) (k : tK τ t = 10) (hn : n < 200) (g : Option Nat) :
    tgs τ 200 t g = if tM τ t = true ∧ tK τ (tC τ t 0) ≠ 9 then tgs τ 200 (tC τ t 0) (some (g.getD (tG τ t))) else (160 + g.getD (tG τ t)) :: tgs τ 200 (tC τ t 0) none := by
  have w2 := (w.tag k).2
  have e1 : ∀ g, tgs τ 200 (tC τ t 0) g = tgs τ 199 (tC τ t 0) g := fun g => by rw [tgs_fuel w2 (show n ≤ 200 by omega), tgs_fuel w2 (show n ≤ 199 by omega)]
  rw [e1, e1]
  show (if tK τ t = 10 then _ else _) = _
  rw [if_pos k]
theorem tgs_ne (n t : Nat) (g : Option Nat) (k : ¬ tK τ t = 10) (k9 : ¬ tK τ t = 9) : tgs τ (n + 1) t g = [if tK τ t = 6 ∨ tK τ t = 7 then (match g with | none => 48 | some x => 160 + x) else (match g with | none => tK τ t | some x => 128 + x)] := by
  unfold tgs
  rw [if_neg k, if_neg k9]
  by_cases c : tK τ t = 6 ∨ tK τ t = 7
  · rw [if_pos c, if_pos c]; cases g <;> rfl
  · rw [if_neg c, if_neg c]; cases g <;> rfl
theorem tgs_nn : ∀ {n t : Nat} {g : Option Nat}, WFt τ n t → ¬ tK τ (bas τ n t) = 9 → tgs τ n t g ≠ [] := by
  intro n
  induction n with
  | zero => intro t g w; exact w.elim
  | succ n ih =>
    intro t g w k9
    by_cases k : tK τ t = 10
    · unfold tgs
      unfold bas at k9
      rw [if_pos k] at k9
      rw [if_pos k]
      split
      · exact ih (w.tag k).2 k9
      · simp
    · rw [bas_ne k] at k9
      rw [tgs_ne _ _ _ k k9]
      simp
end Rl
section Rd
variable {τ : Tb} {b : Nat → Nat}
theorem rT_cons {α : Type} (k : Nat → Nat → Option (α × Nat)) (x : Nat) (xs : List Nat) (a e : Nat) : rT b k (x :: xs) a e = rT b (rT b k xs) [x] a e := rfl
/-- through a tag -/
theorem rd_tag {n t d : Nat} (w : WFt τ (n + 1) t) (k : tK τ t = 10) (hn : n < 200) (g : Option Nat) (a e m : Nat) :
    rd b τ (d + 1) t g a e m = if tM τ t = true ∧ tK τ (tC τ t 0) ≠ 9 then rd b τ (d + 1) (tC τ t 0) (some (g.getD (tG τ t))) a e m else
      rT b (fun a e => rd b τ (d + 1) (tC τ t 0) none a e m) [160 + g.getD (tG τ t)] a e := by
  have w2 := (w.tag k).2
  have eb := bas_tag w k hn
  have et := tgs_tag w k hn g
  by_cases c : tM τ t = true ∧ tK τ (tC τ t 0) ≠ 9
  · rw [if_pos c] at et
    rw [if_pos c, rd, rd, eb, et]
  · rw [if_neg c] at et
    rw [if_neg c]
    by_cases c9 : tK τ (bas τ 200 (tC τ t 0)) = 9
    · rw [rd, eb, et, if_pos c9, rT_cons]
      congr 1
      funext a e
      rw [rd, if_pos c9]
    · have ne : tgs τ 200 (tC τ t 0) none ≠ [] := by
        rw [tgs_fuel w2 (by omega)]
        rw [bas_fuel w2 (by omega)] at c9
        exact tgs_nn w2 c9
      have el : ((160 + g.getD (tG τ t)) :: tgs τ 200 (tC τ t 0) none).getLastD 0 = (tgs τ 200 (tC τ t 0) none).getLastD 0 := by
        cases q : tgs τ 200 (tC τ t 0) none with
        | nil => exact absurd q ne
        | cons x l => rfl
      rw [rd, eb, et, if_neg c9, List.dropLast_cons_of_ne_nil ne, rT_cons, el]
      congr 1
      funext a e
      rw [rd, if_neg c9]
theorem rd_cho {t d : Nat} (k : tK τ t = 9) (g : Option Nat) (a e m : Nat) : rd b τ (d + 1) t g a e m = rdCh b τ (fun t a e m => rd b τ d t none a e m) t m a e := by
  have k10 : ¬ tK τ t = 10 := by omega
  rw [rd, bas_ne k10, if_pos k, show tgs τ 200 t g = [] from by show (if _ then _ else if _ then _ else _) = _; rw [if_neg k10, if_pos k]]
  rfl
/-- the tag byte of what is not made of tags -/
def tgB (τ : Tb) (t : Nat) (g : Option Nat) : Nat := if tK τ t = 6 ∨ tK τ t = 7 then (match g with | none => 48 | some x => 160 + x) else (match g with | none => tK τ t | some x => 128 + x)
theorem rd_in {t d : Nat} (k : ¬ tK τ t = 10) (k9 : ¬ tK τ t = 9) (g : Option Nat) (a e m : Nat) : rd b τ (d + 1) t g a e m = rdIn b τ (fun t a e m => rd b τ d t none a e m) t (tgB τ t g) m a e := by
  rw [rd, bas_ne k, if_neg k9, tgs_ne 199 t g k k9]
  rfl
end Rd
