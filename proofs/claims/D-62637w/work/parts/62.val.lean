/-! VALUES: what reading makes sure of -/
set_option maxRecDepth 100000
/-- places that grow, below a bound -/
def inc {α : Type} : Nat → List (Nat × α) → Nat → Prop
  | _, [], _ => True
  | lo, q :: l, hi => lo ≤ q.1 ∧ q.1 < hi ∧ inc (q.1 + 1) l hi
/-- places one behind another -/
def idx {α : Type} : Nat → List (Nat × α) → Prop
  | _, [] => True
  | k, q :: l => q.1 = k ∧ idx (k + 1) l
theorem inc.mono {α : Type} {lo lo' hi : Nat} {l : List (Nat × α)} (h : inc lo l hi) (le : lo' ≤ lo) : inc lo' l hi := by
  cases l with
  | nil => trivial
  | cons q l => exact ⟨by have := h.1; omega, h.2⟩
theorem inc.mem {α : Type} {hi : Nat} : ∀ {lo : Nat} {l : List (Nat × α)}, inc lo l hi → ∀ q ∈ l, lo ≤ q.1 ∧ q.1 < hi := by
  intro lo l
  induction l generalizing lo with
  | nil => intro _ q hq; cases hq
  | cons x l ih =>
    intro h q hq
    rcases List.mem_cons.mp hq with e | e
    · rw [e]; exact ⟨h.1, h.2.1⟩
    · have := ih h.2.2 q e; have := h.1; omega
/-- a value of a type -/
def VOk (τ : Tb) : (d : Nat) → Vt d → Nat → Prop
  | 0, _, _ => False
  | d + 1, v, t => vT v = bas τ 200 t ∧
    ((tK τ (vT v) = 1 ∧ (vN v = 0 ∨ vN v = 1) ∧ vO v = [] ∧ vK v = []) ∨
     (tK τ (vT v) = 2 ∧ (tB τ (vT v) = true → inR (vN v) (tLo τ (vT v)) (tHi τ (vT v)) = true) ∧ vO v = [] ∧ vK v = []) ∨
     (tK τ (vT v) = 4 ∧ vN v = zI ↑(vO v).length ∧ okC τ (vT v) (vO v).length = true ∧ (∀ x ∈ vO v, x < 256) ∧ vK v = []) ∨
     (tK τ (vT v) = 5 ∧ vN v = 0 ∧ vO v = [] ∧ vK v = []) ∨
     (tK τ (vT v) = 6 ∧ vN v = zI ↑(vK v).length ∧ vO v = [] ∧ inc 0 (vK v) (tN τ (vT v)) ∧ ∀ q ∈ vK v, VOk τ d q.2 (tC τ (vT v) q.1)) ∨
     (tK τ (vT v) = 7 ∧ vN v = zI ↑(vK v).length ∧ vO v = [] ∧ okC τ (vT v) (vK v).length = true ∧ idx 0 (vK v) ∧ ∀ q ∈ vK v, VOk τ d q.2 (tC τ (vT v) 0)) ∨
     (tK τ (vT v) = 9 ∧ vO v = [] ∧ ∃ k w, k < tN τ (vT v) ∧ vN v = zI k ∧ vK v = [(0, w)] ∧ VOk τ d w (tC τ (vT v) k)))
section Vk
variable {τ : Tb} {b : Nat → Nat}
theorem WFt.base : ∀ {n t : Nat}, WFt τ n t → n ≤ 200 → ∃ j, n = j + 1 + (n - (j + 1)) ∧ WFt τ (j + 1) (bas τ 200 t) ∧ ¬ tK τ (bas τ 200 t) = 10 := by
  intro n
  induction n with
  | zero => intro t w; exact w.elim
  | succ n ih =>
    intro t w hn
    by_cases k : tK τ t = 10
    · obtain ⟨j, h1, h2, h3⟩ := ih (w.tag k).2 (by omega)
      rw [bas_tag w k (by omega)]
      exact ⟨j, by omega, h2, h3⟩
    · rw [bas_ne k]
      exact ⟨n, by omega, w, k⟩
theorem dfl_vok {d t : Nat} {x : Int32} (h : dOK τ (bas τ 200 t) x) : VOk τ (d + 1) (dfl τ (d + 1) t x) t := by
  refine ⟨rfl, ?_⟩
  rcases h with ⟨h1, h2⟩ | ⟨h1, h2⟩
  · exact Or.inl ⟨h1, h2, rfl, rfl⟩
  · exact Or.inr (Or.inl ⟨h1, h2, rfl, rfl⟩)
/-- components that were read -/
theorem rdS_vok {d j q e : Nat} {R : Nat → Nat → Nat → Nat → Option (Vt d × Nat)} (hd : 1 ≤ d) (hR : ∀ t a e m v a', WFt τ j t → R t a e m = some (v, a') → VOk τ d v t)
    (hw : ∀ k, k < tN τ q → tF τ q k ≤ 2 ∧ (tF τ q k = 2 → dOK τ (bas τ 200 (tC τ q k)) (tD τ q k)) ∧ WFt τ j (tC τ q k)) :
    ∀ (r k a m : Nat) (l : List (Nat × Vt d)) (a' : Nat), k + r = tN τ q → rdS b τ R (dfl τ d) q e r k a m = some (l, a') → inc k l (tN τ q) ∧ ∀ p ∈ l, VOk τ d p.2 (tC τ q p.1) := by
  intro r
  induction r with
  | zero => intro k a m l a' _ h; cases h; exact ⟨trivial, fun p hp => by cases hp⟩
  | succ r ih =>
    intro k a m l a' hk h
    obtain ⟨w1, w2, w3⟩ := hw k (by omega)
    unfold rdS at h
    split at h
    · split at h
      · cases h
      · next w =>
        split at h
        · cases h
        · next y =>
          cases h
          obtain ⟨y1, y2⟩ := ih _ _ _ _ _ (by omega) y
          refine ⟨⟨Nat.le_refl _, by omega, y1⟩, fun p hp => ?_⟩
          rcases List.mem_cons.mp hp with e | e
          · rw [e]; exact hR _ _ _ _ _ _ w3 w
          · exact y2 p e
    · split at h
      · cases h
      · split at h
        · next f2 =>
          split at h
          · split at h
            · cases h
            · next y =>
              cases h
              obtain ⟨y1, y2⟩ := ih _ _ _ _ _ (by omega) y
              refine ⟨⟨Nat.le_refl _, by omega, y1⟩, fun p hp => ?_⟩
              rcases List.mem_cons.mp hp with e | e
              · rw [e]
                cases d with
                | zero => omega
                | succ d => exact dfl_vok (w2 f2)
              · exact y2 p e
          · cases h
        · obtain ⟨y1, y2⟩ := ih _ _ _ _ _ (by omega) h
          exact ⟨y1.mono (by omega), y2⟩
theorem rdL_vok {d j q e : Nat} {lo : Bool} {R : Nat → Nat → Nat → Nat → Option (Vt d × Nat)} (hR : ∀ t a e m v a', WFt τ j t → R t a e m = some (v, a') → VOk τ d v t) (hw : WFt τ j (tC τ q 0)) :
    ∀ (r k a m : Nat) (l : List (Nat × Vt d)) (a' : Nat), rdL b τ R q e lo r k a m = some (l, a') → idx k l ∧ ∀ p ∈ l, VOk τ d p.2 (tC τ q 0) := by
  intro r
  induction r with
  | zero => intro k a m l a' h; cases h
  | succ r ih =>
    intro k a m l a' h
    unfold rdL at h
    split at h
    · cases h; exact ⟨trivial, fun p hp => by cases hp⟩
    · split at h
      · cases h
      · next w =>
        split at h
        · cases h
        · next y =>
          cases h
          obtain ⟨y1, y2⟩ := ih _ _ _ _ _ y
          refine ⟨⟨rfl, y1⟩, fun p hp => ?_⟩
          rcases List.mem_cons.mp hp with e | e
          · rw [e]; exact hR _ _ _ _ _ _ hw w
          · exact y2 p e
theorem leaf_vok {d q a n : Nat} {x : Int32} {o : List Nat} (hb : ∀ i, b i < 256) (hk : tK τ q = 1 ∨ tK τ q = 2 ∨ tK τ q = 4 ∨ tK τ q = 5) (hq : bas τ 200 q = q) (h : leaf b τ q a n = some (x, o)) : VOk τ (d + 1) (mkV q x o []) q := by
  refine ⟨hq.symm, ?_⟩
  show (tK τ q = 1 ∧ _) ∨ (tK τ q = 2 ∧ _) ∨ (tK τ q = 4 ∧ _) ∨ (tK τ q = 5 ∧ _) ∨ _
  unfold leaf at h
  split at h
  · next k =>
    split at h
    · cases h; exact Or.inr (Or.inr (Or.inr (Or.inl ⟨k, rfl, rfl, rfl⟩)))
    · cases h
  · split at h
    · next k =>
      split at h
      · cases h
        refine Or.inl ⟨k, ?_, rfl, rfl⟩
        show (if _ then (0 : Int32) else 1) = 0 ∨ (if _ then (0 : Int32) else 1) = 1
        split
        · exact Or.inl rfl
        · exact Or.inr rfl
      · cases h
    · split at h
      · next k =>
        split at h
        · next c => cases h; exact Or.inr (Or.inl ⟨k, c.2.2, rfl, rfl⟩)
        · cases h
      · split at h
        · next c =>
          cases h
          have k4 : tK τ q = 4 := by omega
          have hl : (byL b a n).length = n := by simp [byL]
          refine Or.inr (Or.inr (Or.inl ⟨k4, ?_, ?_, ?_, rfl⟩))
          · show Int32.ofNat n = zI ↑(byL b a n).length; rw [hl, zI_nat]
          · show okC τ q (byL b a n).length = true; rw [hl]; exact decide_eq_true c
          · intro x hx
            change x ∈ byL b a n at hx
            unfold byL at hx
            rw [List.mem_map] at hx
            obtain ⟨i, -, e⟩ := hx
            rw [← e]; exact hb _
        · cases h
theorem VOk.bas {d t t2 : Nat} {v : Vt d} (h : VOk τ d v t) (e : bas τ 200 t = bas τ 200 t2) : VOk τ d v t2 := by
  cases d with
  | zero => exact h.elim
  | succ d => exact ⟨h.1.trans e, h.2⟩
/-- what is read is a value of its type -/
theorem rd_vok (hb : ∀ i, b i < 256) : ∀ (d j t : Nat) (g : Option Nat) (a e m : Nat) (v : Vt d) (a' : Nat), WFt τ j t → j ≤ d → j ≤ 200 → rd b τ d t g a e m = some (v, a') → VOk τ d v t := by
  intro d
  induction d with
  | zero => intro j t g a e m v a' _ _ _ h; cases h
  | succ d ih =>
    intro j t g a e m v a' w hjd hj h
    obtain ⟨i, hi, wb, kb⟩ := w.base hj
    have bb : bas τ 200 (bas τ 200 t) = bas τ 200 t := bas_ne kb
    have hR : ∀ t a e m v a', WFt τ i t → (fun t a e m => rd b τ d t none a e m) t a e m = some (v, a') → VOk τ d v t := fun t a e m v a' w y => ih i t none a e m v a' w (by omega) (by omega) y
    have main : ∀ x a e v a', (rdIn b τ (fun t a e m => rd b τ d t none a e m) (bas τ 200 t) x m a e = some (v, a') ∧ ¬ tK τ (bas τ 200 t) = 9) ∨ (rdCh b τ (fun t a e m => rd b τ d t none a e m) (bas τ 200 t) m a e = some (v, a') ∧ tK τ (bas τ 200 t) = 9) → VOk τ (d + 1) v (bas τ 200 t) := by
      intro x a e v a' hh
      generalize bas τ 200 t = q at *
      rcases hh with ⟨h, k9⟩ | ⟨h, k9⟩
      · unfold rdIn at h
        split at h
        · split at h
          · next k6 =>
            have w6 := wb.seq k6
            unfold rdSq at h
            split at h
            · cases h
            · split at h
              · cases h
              · next y =>
                split at h
                · cases h
                · cases h
                  cases i with
                  | zero =>
                    have : tN τ q = 0 := by
                      rcases Nat.eq_zero_or_pos (tN τ q) with z | z
                      · exact z
                      · exact (w6.2 0 z).2.2.elim
                    rw [this] at y
                    cases y
                    exact ⟨bb.symm, Or.inr (Or.inr (Or.inr (Or.inr (Or.inl ⟨k6, by rw [← zI_nat]; rfl, rfl, trivial, fun p hp => by cases hp⟩))))⟩
                  | succ i =>
                    obtain ⟨y1, y2⟩ := rdS_vok (by omega) hR w6.2 _ _ _ _ _ _ (Nat.zero_add _) y
                    exact ⟨bb.symm, Or.inr (Or.inr (Or.inr (Or.inr (Or.inl ⟨k6, by rw [← zI_nat]; rfl, rfl, y1, y2⟩))))⟩
          · split at h
            · next k7 =>
              have w7 := wb.lst k7
              unfold rdLs at h
              split at h
              · cases h
              · split at h
                · cases h
                · next y =>
                  split at h
                  · next c =>
                    split at h
                    · cases h
                    · cases h
                      obtain ⟨y1, y2⟩ := rdL_vok hR w7.2 _ _ _ _ _ _ y
                      exact ⟨bb.symm, Or.inr (Or.inr (Or.inr (Or.inr (Or.inr (Or.inl ⟨k7, by rw [← zI_nat]; rfl, rfl, decide_eq_true c, y1, y2⟩)))))⟩
                  · cases h
            · next k6 k7 =>
              unfold rdLf at h
              split at h
              · split at h
                · cases h
                · cases h
                · split at h
                  · cases h
                  · next y =>
                    cases h
                    refine leaf_vok hb ?_ bb y
                    rcases wb with ⟨k2, -⟩ | ⟨k2, -⟩ | ⟨k2, -⟩ | ⟨k2, -⟩ | ⟨k2, -⟩ | ⟨k2, -⟩ | ⟨k2, -⟩ | ⟨k2, -⟩ <;> omega
              · cases h
        · cases h
      · have w9 := wb.cho k9
        unfold rdCh at h
        split at h
        · cases h
        · next k hk =>
          split at h
          · split at h
            · cases h
            · next y =>
              cases h
              have ha := alt_bit _ _ hk
              exact ⟨bb.symm, Or.inr (Or.inr (Or.inr (Or.inr (Or.inr (Or.inr ⟨k9, rfl, k, _, (show k < tN τ q by omega), by rw [← zI_nat]; rfl, rfl, hR _ _ _ _ _ _ (w9.2.2 k (by omega)) y⟩)))))⟩
          · cases h
    refine VOk.bas (t := bas τ 200 t) ?_ bb
    rw [rd] at h
    split at h
    · next k9 =>
      obtain ⟨a1, e1, a2, y⟩ := rT_ex _ _ _ _ _ h
      exact main 0 _ _ _ _ (Or.inr ⟨y, k9⟩)
    · next k9 =>
      obtain ⟨a1, e1, a2, y⟩ := rT_ex _ _ _ _ _ h
      exact main _ _ _ _ _ (Or.inl ⟨y, k9⟩)
end Vk
