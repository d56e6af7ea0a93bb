/-! DER: how long it is; bits of bytes -/
set_option maxRecDepth 100000
section En
variable {τ : Tb}
/-- the content of a value -/
def cnE (τ : Tb) {d : Nat} (E : Vt d → Nat → Option Nat → List Nat) (v : Vt (d + 1)) (q : Nat) : List Nat :=
  if tK τ q = 1 then [(255 * vN v).toNatClampNeg]
  else if tK τ q = 2 then ibs (vN v) (byO (vN v))
  else if tK τ q = 4 then vO v
  else if tK τ q = 5 then []
  else ((vK v).map fun p => if lft τ q p then [] else E p.2 (if tK τ q = 6 then tC τ q p.1 else if tK τ q = 7 then tC τ q 0 else tC τ q (vN v).toNatClampNeg) none).flatten
theorem enc_s (d : Nat) (v : Vt (d + 1)) (t : Nat) (g : Option Nat) : enc τ (d + 1) v t g = wrp (tgs τ 200 t g) (cnE τ (enc τ d) v (bas τ 200 t)) := rfl
/-- how long a header is -/
def hl (n : Nat) : Nat := if 255 < n then 4 else if 127 < n then 3 else 2
theorem hdr_len (x n : Nat) : (hdr x n).length = hl n := by
  unfold hdr hl
  split
  · rfl
  · split <;> rfl
theorem wrp_c (x : Nat) (xs c : List Nat) : wrp (x :: xs) c = hdr x (wrp xs c).length ++ wrp xs c := rfl
theorem wrp_len : ∀ (xs ys c c' : List Nat), xs.length = ys.length → c.length = c'.length → (wrp xs c).length = (wrp ys c').length := by
  intro xs
  induction xs with
  | nil =>
    intro ys c c' h1 h2
    cases ys with
    | nil => exact h2
    | cons y ys => cases h1
  | cons x xs ih =>
    intro ys c c' h1 h2
    cases ys with
    | nil => cases h1
    | cons y ys =>
      have := ih ys c c' (by simpa using h1) h2
      rw [wrp_c, wrp_c, List.length_append, List.length_append, hdr_len, hdr_len, this]
theorem wrp_ge (xs c : List Nat) : c.length ≤ (wrp xs c).length := by
  induction xs with
  | nil => exact Nat.le_refl _
  | cons x xs ih => rw [wrp_c, List.length_append]; omega
theorem tgs_len : ∀ (n t : Nat) (g g' : Option Nat), (tgs τ n t g).length = (tgs τ n t g').length := by
  intro n
  induction n with
  | zero => intro t g g'; rfl
  | succ n ih =>
    intro t g g'
    unfold tgs
    split
    · split
      · exact ih _ _ _
      · rfl
    · split
      · rfl
      · split <;> rfl
theorem enc_lg (d : Nat) (v : Vt d) (t : Nat) (g g' : Option Nat) : (enc τ d v t g).length = (enc τ d v t g').length := by
  cases d with
  | zero => rfl
  | succ d => rw [enc_s, enc_s]; exact wrp_len _ _ _ _ (tgs_len _ _ _ _) rfl
theorem tgs_cnt : ∀ {n t : Nat} (g : Option Nat), WFt τ n t → ∃ jb, jb + 1 ≤ n ∧ WFt τ (jb + 1) (bas τ n t) ∧ ¬ tK τ (bas τ n t) = 10 ∧ (tgs τ n t g).length + jb ≤ n := by
  intro n
  induction n with
  | zero => intro t g w; exact w.elim
  | succ n ih =>
    intro t g w
    by_cases k : tK τ t = 10
    · have w2 := (w.tag k).2
      obtain ⟨jb, h1, h2, h3, h4⟩ := ih (g := none) w2
      have e : bas τ (n + 1) t = bas τ n (tC τ t 0) := by rw [bas, if_pos k]
      refine ⟨jb, by omega, by rw [e]; exact h2, by rw [e]; exact h3, ?_⟩
      unfold tgs
      rw [if_pos k]
      split
      · rw [tgs_len n _ _ none]; omega
      · rw [List.length_cons]; omega
    · rw [bas_ne k]
      refine ⟨n, by omega, w, k, ?_⟩
      by_cases k9 : tK τ t = 9
      · unfold tgs; rw [if_neg k, if_pos k9]; simp
      · rw [tgs_ne n t g k k9]; simp; omega
theorem hl_le (x : Nat) : 128 * hl x ≤ 256 + x := by
  unfold hl
  split
  · omega
  · split <;> omega
theorem wrp_bd {c : List Nat} {L w : Nat} (hc : 100 * c.length ≤ (100 + L) * w) : ∀ xs : List Nat, L + xs.length ≤ 20 → 100 * (wrp xs c).length ≤ (100 + L + xs.length) * (w + 2 * xs.length) := by
  intro xs
  induction xs with
  | nil => intro _; exact hc
  | cons x xs ih =>
    intro hL
    rw [List.length_cons] at hL ⊢
    have h0 := ih (by omega)
    rw [wrp_c, List.length_append, hdr_len]
    have h1 := hl_le (wrp xs c).length
    have e1 : (100 + L + (xs.length + 1)) * (w + 2 * (xs.length + 1)) = (100 + L + xs.length) * (w + 2 * xs.length) + 2 * (100 + L + xs.length) + (w + 2 * xs.length) + 2 := by
      rw [show 100 + L + (xs.length + 1) = (100 + L + xs.length) + 1 by omega, show w + 2 * (xs.length + 1) = (w + 2 * xs.length) + 2 by omega, Nat.add_mul, Nat.mul_add]; omega
    have h3 : (100 + L + xs.length) * (w + 2 * xs.length) ≤ 128 * (w + 2 * xs.length) := Nat.mul_le_mul_right _ (by omega)
    rw [e1]
    generalize (100 + L + xs.length) * (w + 2 * xs.length) = pq at *
    omega
theorem byO_le (x : Int32) : 1 ≤ byO x ∧ byO x ≤ 4 := by
  unfold byO
  repeat' split
  all_goals omega
theorem ibs_len (x : Int32) : ∀ n, (ibs x n).length = n := by
  intro n
  induction n with
  | zero => rfl
  | succ n ih => show (ibs x n).length + 1 = n + 1; rw [ih]
/-- how long it is at most: 20 for a part, 1 for an octet, a little more by its depth -/
theorem enc_bd : ∀ (d j t : Nat) (v : Vt d) (g : Option Nat), VOk τ d v t → WFt τ j t → j ≤ 8 → 100 * (enc τ d v t g).length ≤ (100 + j) * (20 * sz d v + oz d v) := by
  intro d
  induction d with
  | zero => intro j t v g h; exact h.elim
  | succ d ih =>
    intro j t v g h w hj
    obtain ⟨jb, b1, b2, b3, b4⟩ := tgs_cnt (τ := τ) g w
    rw [← bas_fuel w (show j ≤ 200 by omega)] at b2 b3
    rw [← tgs_fuel w (show j ≤ 200 by omega)] at b4
    obtain ⟨hv, h⟩ := h
    rw [enc_s]
    rw [← hv] at b2 b3 ⊢
    have key : 100 * (cnE τ (enc τ d) v (vT v)).length ≤ (100 + jb) * (20 * sz (d + 1) v + oz (d + 1) v - 16) := by
      rw [sz_s, oz_s]
      have kids : ∀ (l : List (Nat × Vt d)) (T : Nat × Vt d → Nat), (∀ p ∈ l, VOk τ d p.2 (T p) ∧ WFt τ jb (T p)) → 100 * ((l.map fun p => if lft τ (vT v) p then [] else enc τ d p.2 (T p) none).flatten).length ≤ (100 + jb) * (20 * szs l + ozs l) := by
        intro l T
        induction l with
        | nil => intro _; simp
        | cons p l ihl =>
          intro hp
          have h1 := ihl (fun q hq => hp q (List.mem_cons_of_mem _ hq))
          obtain ⟨h2, h3⟩ := hp p (List.mem_cons_self)
          have h4 := ih jb (T p) p.2 none h2 h3 (by omega)
          rw [List.map_cons, List.flatten_cons, List.length_append, szs_cons, ozs_cons, show 20 * (sz d p.2 + szs l) + (oz d p.2 + ozs l) = (20 * sz d p.2 + oz d p.2) + (20 * szs l + ozs l) by omega, Nat.mul_add (100 + jb)]
          have h5 : (if lft τ (vT v) p then [] else enc τ d p.2 (T p) none).length ≤ (enc τ d p.2 (T p) none).length := by split <;> simp
          omega
      have big : (100 + jb) * (20 * szs (vK v) + ozs (vK v)) ≤ (100 + jb) * (20 * (1 + szs (vK v)) + ((vO v).length + ozs (vK v)) - 16) := Nat.mul_le_mul_left _ (by omega)
      have lf : ∀ n, n ≤ 4 + (vO v).length → 100 * n ≤ (100 + jb) * (20 * (1 + szs (vK v)) + ((vO v).length + ozs (vK v)) - 16) := by
        intro n hn
        have h1 : (100 + jb) * (4 + (vO v).length) ≤ (100 + jb) * (20 * (1 + szs (vK v)) + ((vO v).length + ozs (vK v)) - 16) := Nat.mul_le_mul_left _ (by omega)
        have h2 : 100 * (4 + (vO v).length) ≤ (100 + jb) * (4 + (vO v).length) := Nat.mul_le_mul_right _ (by omega)
        omega
      unfold cnE
      rcases h with ⟨k, -⟩ | ⟨k, -⟩ | ⟨k, -⟩ | ⟨k, -⟩ | ⟨k, h1, h2, h3, h4⟩ | ⟨k, h1, h2, h3, h4, h5⟩ | ⟨k, h1, kk, w9, h2, h3, h4, h5⟩
      · rw [if_pos k]; exact lf _ (by simp; omega)
      · rw [if_neg (by omega), if_pos k, ibs_len]; exact lf _ (by have := byO_le (vN v); omega)
      · rw [if_neg (by omega), if_neg (by omega), if_pos k]; exact lf _ (by omega)
      · rw [if_neg (by omega), if_neg (by omega), if_neg (by omega), if_pos k]; exact lf _ (by simp)
      · rw [if_neg (by omega), if_neg (by omega), if_neg (by omega), if_neg (by omega)]
        simp only [if_pos k]
        refine Nat.le_trans (kids (vK v) (fun p => tC τ (vT v) p.1) (fun p hp => ⟨h4 p hp, ?_⟩)) big
        exact ((b2.seq k).2 p.1 (h3.mem p hp).2).2.2
      · rw [if_neg (by omega), if_neg (by omega), if_neg (by omega), if_neg (by omega)]
        simp only [if_neg (show ¬ tK τ (vT v) = 6 by omega), if_pos k]
        exact Nat.le_trans (kids (vK v) (fun p => tC τ (vT v) 0) (fun p hp => ⟨h5 p hp, (b2.lst k).2⟩)) big
      · rw [if_neg (by omega), if_neg (by omega), if_neg (by omega), if_neg (by omega)]
        simp only [if_neg (show ¬ tK τ (vT v) = 6 by omega), if_neg (show ¬ tK τ (vT v) = 7 by omega)]
        refine Nat.le_trans (kids (vK v) (fun p => tC τ (vT v) (vN v).toNatClampNeg) (fun p hp => ?_)) big
        have w3 := b2.cho k
        rw [h4] at hp
        have : p = (0, w9) := by simpa using hp
        rw [this, h3, zn_cl (by omega)]
        exact ⟨h5, w3.2.2 kk h2⟩
    have m := wrp_bd key (tgs τ 200 t g) (by omega)
    refine Nat.le_trans m (Nat.mul_le_mul (by omega) ?_)
    rw [sz_s]
    omega
theorem enc_2600 {d j t : Nat} {v : Vt d} {g : Option Nat} (h : VOk τ d v t) (w : WFt τ j t) (hj : j ≤ 8) (h1 : sz d v ≤ 100) (h2 : oz d v ≤ 120) : (enc τ d v t g).length ≤ 2600 := by
  have := enc_bd d j t v g h w hj
  have h3 : (100 + j) * (20 * sz d v + oz d v) ≤ 108 * 2120 := Nat.mul_le_mul (by omega) (by omega)
  omega
end En
/-- bytes as bits -/
def btB (L : List Nat) : List Bool := (L.map fun (x : Nat) => btL (zI ↑x) 8).flatten
theorem btB_nil : btB [] = [] := rfl
theorem btB_c (x : Nat) (L : List Nat) : btB (x :: L) = btL (zI ↑x) 8 ++ btB L := rfl
theorem btB_app (L M : List Nat) : btB (L ++ M) = btB L ++ btB M := by simp [btB]
theorem btB_len (L : List Nat) : (btB L).length = 8 * L.length := by
  induction L with
  | nil => rfl
  | cons x L ih => rw [btB_c, List.length_append, btL_len, ih, List.length_cons]; omega
theorem byA_1 : ((List.range 256).all fun x => decide (byA (btL (zI (x : Nat)) 8) 0 = x)) = true := by decide +kernel
theorem byA_appL {A B : List Bool} {i : Nat} (h : 8 * i + 8 ≤ A.length) : byA (A ++ B) i = byA A i := by
  have g : ∀ k, k < A.length → (A ++ B).getD k false = A.getD k false := by
    intro k hk
    rw [List.getD_eq_getElem?_getD, List.getD_eq_getElem?_getD, List.getElem?_append_left hk]
  unfold byA
  rw [g _ (by omega), g _ (by omega), g _ (by omega), g _ (by omega), g _ (by omega), g _ (by omega), g _ (by omega), g _ (by omega)]
theorem byA_appR {A B : List Bool} {k i : Nat} (h : A.length = 8 * k) : byA (A ++ B) (k + i) = byA B i := by
  have g : ∀ j, (A ++ B).getD (8 * (k + i) + j) false = B.getD (8 * i + j) false := by
    intro j
    rw [List.getD_eq_getElem?_getD, List.getD_eq_getElem?_getD, List.getElem?_append_right (by omega)]
    congr 2
    omega
  have g0 := g 0
  rw [Nat.add_zero, Nat.add_zero] at g0
  unfold byA
  rw [g0, g 1, g 2, g 3, g 4, g 5, g 6, g 7]
theorem byA_btB : ∀ (L : List Nat), (∀ x ∈ L, x < 256) → ∀ (i x : Nat), L[i]? = some x → byA (btB L) i = x := by
  intro L
  induction L with
  | nil => intro _ i x h; cases h
  | cons y L ih =>
    intro hL i x h
    rw [btB_c]
    cases i with
    | zero =>
      cases h
      rw [byA_appL (by rw [btL_len]; omega)]
      exact of_decide_eq_true (List.all_eq_true.mp byA_1 y (List.mem_range.mpr (hL y (List.mem_cons_self))))
    | succ i =>
      rw [show i + 1 = 1 + i by omega, byA_appR (by rw [btL_len])]
      exact ih (fun x hx => hL x (List.mem_cons_of_mem _ hx)) i x (by simpa using h)
