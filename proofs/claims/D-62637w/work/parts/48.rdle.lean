/-! THE SPEC: what reading keeps to -/
set_option maxRecDepth 100000
section Le
variable {τ : Tb} {b : Nat → Nat}
theorem lnR_le {a e x : Nat} {made : Bool} {w : Option Nat} (h : lnR b a e made = some (w, x)) : a < x ∧ x + w.getD 0 ≤ e := by
  unfold lnR lnF at h
  (repeat' split at h) <;> first | (cases h; done) | (cases h; simp only [Option.getD]; omega)
theorem ent_le {x a e a1 e1 : Nat} {l : Bool} (h : ent b x a e = some (a1, e1, l)) : a + 2 ≤ a1 ∧ a1 ≤ e1 ∧ e1 ≤ e ∧ b a = x ∧ a < e := by
  unfold ent at h
  split at h
  · next c =>
    split at h
    · cases h
    · next q => cases h; have := lnR_le q; simp only [Option.getD] at this; exact ⟨by omega, by omega, by omega, c.2, c.1⟩
    · next q => cases h; have := lnR_le q; simp only [Option.getD] at this; exact ⟨by omega, by omega, by omega, c.2, c.1⟩
  · cases h
theorem lea_le {a e a3 : Nat} {l : Bool} (h : lea b a e l = some a3) : a ≤ a3 ∧ (a ≤ e → a3 ≤ e) := by
  unfold lea isE at h
  cases l with
  | true =>
    simp only [if_true, ↓reduceIte, decide_eq_true_eq] at h
    by_cases c : a + 1 < e ∧ b a = 0 ∧ b (a + 1) = 0
    · rw [if_pos c] at h; cases h; omega
    · rw [if_neg c] at h; cases h
  | false =>
    simp only [Bool.false_eq_true, if_false, ↓reduceIte, decide_eq_true_eq] at h
    by_cases c : a = e
    · rw [if_pos c] at h; cases h; omega
    · rw [if_neg c] at h; cases h
theorem sz_mk {d : Nat} (q : Nat) (x : Int32) (o : List Nat) (ks : List (Nat × Vt d)) : sz (d + 1) (mkV q x o ks) = 1 + szs ks := rfl
theorem oz_mk {d : Nat} (q : Nat) (x : Int32) (o : List Nat) (ks : List (Nat × Vt d)) : oz (d + 1) (mkV q x o ks) = o.length + ozs ks := rfl
theorem rT_le {α : Type} {o : α → Nat} {k : Nat → Nat → Option (α × Nat)} {z : Nat} (hk : ∀ a e v a', a ≤ e → k a e = some (v, a') → a + o v + z ≤ a' ∧ a' ≤ e) :
    ∀ (xs : List Nat) (a e : Nat) (v : α) (a' : Nat), a ≤ e → rT b k xs a e = some (v, a') → a + o v + z ≤ a' ∧ a' ≤ e := by
  intro xs
  induction xs with
  | nil => intro a e v a' hae h; exact hk a e v a' hae h
  | cons x xs ih =>
    intro a e v a' hae h
    unfold rT at h
    split at h
    · cases h
    · next q =>
      obtain ⟨q1, q2, q3, q4, q5⟩ := ent_le q
      split at h
      · cases h
      · next w =>
        obtain ⟨w1, w2⟩ := ih _ _ _ _ q2 w
        split at h
        · cases h
        · next y =>
          cases h
          obtain ⟨y1, y2⟩ := lea_le y
          have := y2 w2
          omega
theorem rT_ex {α : Type} {k : Nat → Nat → Option (α × Nat)} : ∀ (xs : List Nat) (a e : Nat) (v : α) (a' : Nat), rT b k xs a e = some (v, a') → ∃ a1 e1 a2, k a1 e1 = some (v, a2) := by
  intro xs
  induction xs with
  | nil => intro a e v a' h; exact ⟨_, _, _, h⟩
  | cons x xs ih =>
    intro a e v a' h
    unfold rT at h
    split at h
    · cases h
    · split at h
      · cases h
      · next w =>
        split at h
        · cases h
        · cases h; exact ih _ _ _ _ w
/-- the number of parts -/
def okM (d m : Nat) (v : Vt d) : Prop := m + sz d v ≤ 100 ∧ 1 ≤ sz d v
theorem dfl_sz (d t : Nat) (x : Int32) : sz (d + 1) (dfl τ (d + 1) t x) = 1 ∧ oz (d + 1) (dfl τ (d + 1) t x) = 0 := ⟨rfl, rfl⟩
theorem rdS_le {d : Nat} {R : Nat → Nat → Nat → Nat → Option (Vt d × Nat)} (hR : ∀ t a e m v a', a ≤ e → R t a e m = some (v, a') → a + oz d v ≤ a' ∧ a' ≤ e ∧ okM d m v) {q e : Nat} :
    ∀ (r k a m : Nat) (l : List (Nat × Vt d)) (a' : Nat), a ≤ e → m ≤ 100 → rdS b τ R (dfl τ d) q e r k a m = some (l, a') → a + ozs l ≤ a' ∧ a' ≤ e ∧ m + szs l ≤ 100 := by
  intro r
  induction r with
  | zero => intro k a m l a' hae hm h; cases h; simp only [szs_nil, ozs_nil]; omega
  | succ r ih =>
    intro k a m l a' hae hm h
    unfold rdS at h
    split at h
    · split at h
      · cases h
      · next w =>
        obtain ⟨w1, w2, w3, w4⟩ := hR _ _ _ _ _ _ hae w
        split at h
        · cases h
        · next y =>
          cases h
          obtain ⟨y1, y2, y3⟩ := ih _ _ _ _ _ w2 w3 y
          simp only [szs_cons, ozs_cons]
          omega
    · split at h
      · cases h
      · split at h
        · split at h
          · split at h
            · cases h
            · next y =>
              cases h
              obtain ⟨y1, y2, y3⟩ := ih _ _ _ _ _ hae (by omega) y
              have z1 : sz d (dfl τ d (tC τ q k) (tD τ q k)) ≤ 1 ∧ oz d (dfl τ d (tC τ q k) (tD τ q k)) = 0 := by
                cases d with
                | zero => exact ⟨Nat.zero_le _, rfl⟩
                | succ d => exact ⟨Nat.le_of_eq (dfl_sz d _ _).1, (dfl_sz d _ _).2⟩
              simp only [szs_cons, ozs_cons]
              omega
          · cases h
        · exact ih _ _ _ _ _ hae hm h
theorem rdL_le {d : Nat} {R : Nat → Nat → Nat → Nat → Option (Vt d × Nat)} (hR : ∀ t a e m v a', a ≤ e → R t a e m = some (v, a') → a + oz d v ≤ a' ∧ a' ≤ e ∧ okM d m v) {q e : Nat} {lo : Bool} :
    ∀ (r k a m : Nat) (l : List (Nat × Vt d)) (a' : Nat), a ≤ e → m ≤ 100 → rdL b τ R q e lo r k a m = some (l, a') → a + ozs l ≤ a' ∧ a' ≤ e ∧ m + szs l ≤ 100 := by
  intro r
  induction r with
  | zero => intro k a m l a' hae hm h; cases h
  | succ r ih =>
    intro k a m l a' hae hm h
    unfold rdL at h
    split at h
    · cases h; simp only [szs_nil, ozs_nil]; omega
    · split at h
      · cases h
      · next w =>
        obtain ⟨w1, w2, w3, w4⟩ := hR _ _ _ _ _ _ hae w
        split at h
        · cases h
        · next y =>
          cases h
          obtain ⟨y1, y2, y3⟩ := ih _ _ _ _ _ w2 w3 y
          simp only [szs_cons, ozs_cons]
          omega
theorem leaf_le {q a n : Nat} {x : Int32} {o : List Nat} (h : leaf b τ q a n = some (x, o)) : o.length ≤ n := by
  unfold leaf at h
  (repeat' split at h) <;> first | (cases h; done) | (cases h; simp [byL])
theorem rd_le : ∀ (d t : Nat) (g : Option Nat) (a e m : Nat) (v : Vt d) (a' : Nat), a ≤ e → rd b τ d t g a e m = some (v, a') → a + oz d v ≤ a' ∧ a' ≤ e ∧ okM d m v := by
  intro d
  induction d with
  | zero => intro t g a e m v a' _ h; cases h
  | succ d ih =>
    intro t g a e m v a' hae h
    have hR : ∀ t a e m v a', a ≤ e → (fun t a e m => rd b τ d t none a e m) t a e m = some (v, a') → a + oz d v ≤ a' ∧ a' ≤ e ∧ okM d m v := fun t a e m v a' x y => ih t none a e m v a' x y
    have kc : ∀ a e v a', a ≤ e → rdCh b τ (fun t a e m => rd b τ d t none a e m) (bas τ 200 t) m a e = some (v, a') → a + oz (d + 1) v + 0 ≤ a' ∧ a' ≤ e ∧ okM (d + 1) m v := by
      intro a e v a' hae h
      unfold rdCh at h
      split at h
      · cases h
      · split at h
        · split at h
          · cases h
          · next w =>
            cases h
            obtain ⟨w1, w2, w3, w4⟩ := hR _ _ _ _ _ _ hae w
            refine ⟨?_, w2, ?_, ?_⟩
            · rw [oz_mk, ozs_cons, ozs_nil]; simp only [List.length_nil]; omega
            · rw [sz_mk, szs_cons, szs_nil]; simp only []; omega
            · rw [sz_mk]; omega
        · cases h
    have ki : ∀ x a e v a', a ≤ e → rdIn b τ (fun t a e m => rd b τ d t none a e m) (bas τ 200 t) x m a e = some (v, a') → a + oz (d + 1) v + 0 ≤ a' ∧ a' ≤ e ∧ okM (d + 1) m v := by
      intro x a e v a' hae h
      unfold rdIn at h
      split at h
      · next hm =>
        split at h
        · unfold rdSq at h
          split at h
          · cases h
          · next q =>
            obtain ⟨q1, q2, q3, q4, q5⟩ := ent_le q
            split at h
            · cases h
            · next w =>
              obtain ⟨w1, w2, w3⟩ := rdS_le hR _ _ _ _ _ _ q2 (by omega) w
              split at h
              · cases h
              · next y =>
                cases h
                obtain ⟨y1, y2⟩ := lea_le y
                have := y2 w2
                refine ⟨?_, by omega, ?_, ?_⟩
                · rw [oz_mk]; simp only [List.length_nil]; omega
                · rw [sz_mk]; omega
                · rw [sz_mk]; omega
        · split at h
          · unfold rdLs at h
            split at h
            · cases h
            · next q =>
              obtain ⟨q1, q2, q3, q4, q5⟩ := ent_le q
              split at h
              · cases h
              · next w =>
                obtain ⟨w1, w2, w3⟩ := rdL_le hR _ _ _ _ _ _ q2 (by omega) w
                split at h
                · split at h
                  · cases h
                  · next y =>
                    cases h
                    obtain ⟨y1, y2⟩ := lea_le y
                    have := y2 w2
                    refine ⟨?_, by omega, ?_, ?_⟩
                    · rw [oz_mk]; simp only [List.length_nil]; omega
                    · rw [sz_mk]; omega
                    · rw [sz_mk]; omega
                · cases h
          · unfold rdLf at h
            split at h
            · split at h
              · cases h
              · cases h
              · next w =>
                have w1 := lnR_le w
                simp only [Option.getD] at w1
                split at h
                · cases h
                · next y =>
                  cases h
                  have := leaf_le y
                  refine ⟨?_, by omega, ?_, ?_⟩
                  · rw [oz_mk, ozs_nil]; omega
                  · rw [sz_mk, szs_nil]; omega
                  · rw [sz_mk]; omega
            · cases h
      · cases h
    rw [rd] at h
    split at h
    · have h1 := rT_le (o := oz (d + 1)) (z := 0) (fun a e v a' x y => ⟨(kc a e v a' x y).1, (kc a e v a' x y).2.1⟩) _ _ _ _ _ hae h
      refine ⟨by omega, h1.2, ?_⟩
      have : ∀ xs a e v a', a ≤ e → rT b (rdCh b τ (fun t a e m => rd b τ d t none a e m) (bas τ 200 t) m) xs a e = some (v, a') → okM (d + 1) m v := by
        intro xs
        induction xs with
        | nil => intro a e v a' x y; exact (kc a e v a' x y).2.2
        | cons x xs ihx =>
          intro a e v a' hae h
          unfold rT at h
          split at h
          · cases h
          · next q =>
            split at h
            · cases h
            · next w =>
              split at h
              · cases h
              · cases h; exact ihx _ _ _ _ (ent_le q).2.1 w
      exact this _ _ _ _ _ hae h
    · have h1 := rT_le (o := oz (d + 1)) (z := 0) (fun a e v a' x y => ⟨(ki _ a e v a' x y).1, (ki _ a e v a' x y).2.1⟩) _ _ _ _ _ hae h
      refine ⟨by omega, h1.2, ?_⟩
      have : ∀ xs a e v a', a ≤ e → rT b (rdIn b τ (fun t a e m => rd b τ d t none a e m) (bas τ 200 t) ((tgs τ 200 t g).getLastD 0) m) xs a e = some (v, a') → okM (d + 1) m v := by
        intro xs
        induction xs with
        | nil => intro a e v a' x y; exact (ki _ a e v a' x y).2.2
        | cons x xs ihx =>
          intro a e v a' hae h
          unfold rT at h
          split at h
          · cases h
          · next q =>
            split at h
            · cases h
            · next w =>
              split at h
              · cases h
              · cases h; exact ihx _ _ _ _ (ent_le q).2.1 w
      exact this _ _ _ _ _ hae h
end Le
