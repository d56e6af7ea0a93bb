/-! FRAMES: what effects leave alone; the class's types over a heap -/
set_option maxRecDepth 100000
theorem EF.l {S : SS} {h h' : Hp} (e : EF S h h') {a : Nat} (al : gL h a = true) : gL h' a = true := e.1 a al
theorem EF.i {S : SS} {h h' : Hp} (e : EF S h h') (f : Nat) {a : Nat} (al : gL h a = true) (c : S.1.contains f = false) : gI h' f a = gI h f a := e.2.2.1 f a al c
theorem EF.p {S : SS} {h h' : Hp} (e : EF S h h') (f : Nat) {a : Nat} (al : gL h a = true) (c : S.2.1.contains f = false) : gP h' f a = gP h f a := e.2.2.2.1 f a al c
theorem EF.a {S : SS} {h h' : Hp} (e : EF S h h') {a : Nat} (i : Nat) (al : gL h a = true) (c : (S.2.2.1.all fun f => !saF f a) = true) : gA h' a i = gA h a i := e.2.2.2.2.1 a i al c
theorem EF.r {S : SS} {h h' : Hp} (e : EF S h h') {a : Nat} (i : Nat) (al : gL h a = true) (c : (S.2.2.2.1.all fun f => !saF f a) = true) : gR h' a i = gR h a i := e.2.2.2.2.2.1 a i al c
/-- holders of arrays that have names below 10000 -/
def saK (f : Nat) : Bool := decide (f ≠ 1000) && decide (f ≠ 1100) && decide (f ≠ 1101) && (saL.lookup f).isSome
theorem saF_big {f a : Nat} (ha : 10000 ≤ a) (hf : saK f = true) : saF f a = false := by
  simp only [saK, Bool.and_eq_true, decide_eq_true_eq] at hf
  obtain ⟨⟨⟨h1, h2⟩, h3⟩, h4⟩ := hf
  unfold saF
  rw [if_neg h1, if_neg (by omega)]
  cases q : saL.lookup f with
  | none => rw [q] at h4; cases h4
  | some l =>
    have hm : ∀ (L : List (Nat × List Nat)) (x : List Nat), L.lookup f = some x → (L.all fun r => r.2.all fun y => decide (y < 10000)) = true → (x.all fun y => decide (y < 10000)) = true := by
      intro L
      induction L with
      | nil => intro x hx _; cases hx
      | cons r L ih =>
        intro x hx hL
        rw [List.all_cons, Bool.and_eq_true] at hL
        rw [List.lookup_cons] at hx
        split at hx
        · cases hx; exact hL.1
        · exact ih x hx hL.2
    have hl := hm saL l q (by decide)
    cases hc : l.contains a with
    | false => exact hc
    | true =>
      have : a ∈ l := by simpa using hc
      have := List.all_eq_true.mp hl a this
      simp only [decide_eq_true_eq] at this
      omega
theorem saF_bigs {L : List Nat} {a : Nat} (ha : 10000 ≤ a) (hf : L.all saK = true) : (L.all fun f => !saF f a) = true := by
  apply List.all_eq_true.mpr
  intro f hm
  rw [saF_big ha (List.all_eq_true.mp hf f hm)]
  rfl
def tyI : List Nat := [800, 900, 901, 902, 903, 1001, 1400, 1401, 1402, 1600, 1601]
def tyP : List Nat := [1000, 1100, 1101, 1300, 1500, 1501, 1602]
/-- effects that leave all types alone -/
def noTy (S : SS) : Bool := tyI.all (fun f => !S.1.contains f) && tyP.all (fun f => !S.2.1.contains f) && S.2.2.1.all saK && S.2.2.2.1.all saK
/-- the same, as what it says of two heaps -/
def sameTy (h h' : Hp) : Prop :=
  (∀ a, gL h a = true → gL h' a = true) ∧ (∀ f a, f ∈ tyI → gL h a = true → gI h' f a = gI h f a) ∧ (∀ f a, f ∈ tyP → gL h a = true → gP h' f a = gP h f a) ∧
  (∀ a i, 10000 ≤ a → gL h a = true → gA h' a i = gA h a i) ∧ ∀ a i, 10000 ≤ a → gL h a = true → gR h' a i = gR h a i
theorem EF.ty {S : SS} {h h' : Hp} (e : EF S h h') (n : noTy S = true) : sameTy h h' := by
  simp only [noTy, Bool.and_eq_true] at n
  obtain ⟨⟨⟨n1, n2⟩, n3⟩, n4⟩ := n
  refine ⟨e.1, fun f a hf al => e.i f al ?_, fun f a hf al => e.p f al ?_, fun a i ha al => e.a i al (saF_bigs ha n3), fun a i ha al => e.r i al (saF_bigs ha n4)⟩
  · have := List.all_eq_true.mp n1 f hf
    simpa using this
  · have := List.all_eq_true.mp n2 f hf
    simpa using this
def b2i (b : Bool) : Int32 := if b then 1 else 0
/-- a Size object: its bounds -/
def CSz (h : Hp) (τ : Tb) (o t : Nat) : Prop := gL h o = true ∧ gI h 1400 o = b2i (tB τ t) ∧ (tB τ t = true → gI h 1401 o = tLo τ t ∧ gI h 1402 o = tHi τ t)
def CNm (h : Hp) (nm : Nat) (k : Int32) (bd : Bool) (lo hi : Int32) : Prop := nd_Kd nm = 6 ∧ gI h 900 nm = k ∧ gI h 800 nm = k ∧ gI h 901 nm = b2i bd ∧ (bd = true → gI h 902 nm = lo ∧ gI h 903 nm = hi)
/-- the object nm of the class stands for the row t of the table; n: at most so many types below one another -/
def CTy (h : Hp) (τ : Tb) : Nat → Nat → Nat → Prop
  | 0, _, _ => False
  | n + 1, nm, t => (gL h nm = true ∧ 10000 ≤ nm) ∧
    ((tK τ t = 1 ∧ CNm h nm 1 true 0 1) ∨ (tK τ t = 5 ∧ CNm h nm 5 true 0 0) ∨ (tK τ t = 2 ∧ CNm h nm 2 (tB τ t) (tLo τ t) (tHi τ t)) ∨
     (tK τ t = 4 ∧ nd_Kd nm = 9 ∧ gI h 800 nm = 4 ∧ gP h 1300 nm = some (nm + 1) ∧ CSz h τ (nm + 1) t) ∨
     (tK τ t = 6 ∧ nd_Kd nm = 7 ∧ (gP h 1000 nm = some (nm + 1) ∧ gL h (nm + 1) = true) ∧ (gP h 1100 nm = some (nm + 2) ∧ gL h (nm + 2) = true) ∧ (gP h 1101 nm = some (nm + 3) ∧ gL h (nm + 3) = true) ∧ gI h 1001 nm = zI (tN τ t) ∧
       ∀ k, k < tN τ t → gA h (nm + 2) k = zI (tF τ t k) ∧ (tF τ t k = 2 → gA h (nm + 3) k = tD τ t k) ∧ ∃ c, gR h (nm + 1) k = some c ∧ CTy h τ n c (tC τ t k)) ∨
     (tK τ t = 7 ∧ nd_Kd nm = 11 ∧ gP h 1500 nm = some (nm + 1) ∧ CSz h τ (nm + 1) t ∧ ∃ c, gP h 1501 nm = some c ∧ CTy h τ n c (tC τ t 0)) ∨
     (tK τ t = 9 ∧ nd_Kd nm = 8 ∧ (gP h 1000 nm = some (nm + 1) ∧ gL h (nm + 1) = true) ∧ gI h 1001 nm = zI (tN τ t) ∧ ∀ k, k < tN τ t → ∃ c, gR h (nm + 1) k = some c ∧ CTy h τ n c (tC τ t k)) ∨
     (tK τ t = 10 ∧ nd_Kd nm = 12 ∧ gI h 1600 nm = zI (tG τ t) ∧ gI h 1601 nm = b2i (!tM τ t || tK τ (tC τ t 0) == 9) ∧ ∃ c, gP h 1602 nm = some c ∧ CTy h τ n c (tC τ t 0)))
theorem CSz.fr {h h' : Hp} {τ : Tb} {o t : Nat} (s : sameTy h h') (c : CSz h τ o t) : CSz h' τ o t := by
  refine ⟨s.1 _ c.1, ?_, fun q => ⟨?_, ?_⟩⟩
  · rw [s.2.1 1400 o (by decide) c.1]; exact c.2.1
  · rw [s.2.1 1401 o (by decide) c.1]; exact (c.2.2 q).1
  · rw [s.2.1 1402 o (by decide) c.1]; exact (c.2.2 q).2
theorem CNm.fr {h h' : Hp} {nm : Nat} {k lo hi : Int32} {bd : Bool} (s : sameTy h h') (al : gL h nm = true) (c : CNm h nm k bd lo hi) : CNm h' nm k bd lo hi := by
  refine ⟨c.1, ?_, ?_, ?_, fun q => ⟨?_, ?_⟩⟩
  · rw [s.2.1 900 nm (by decide) al]; exact c.2.1
  · rw [s.2.1 800 nm (by decide) al]; exact c.2.2.1
  · rw [s.2.1 901 nm (by decide) al]; exact c.2.2.2.1
  · rw [s.2.1 902 nm (by decide) al]; exact (c.2.2.2.2 q).1
  · rw [s.2.1 903 nm (by decide) al]; exact (c.2.2.2.2 q).2
theorem CTy.fr {h h' : Hp} {τ : Tb} (s : sameTy h h') : ∀ {n nm t : Nat}, CTy h τ n nm t → CTy h' τ n nm t := by
  intro n
  induction n with
  | zero => intro nm t c; exact c
  | succ n ih =>
    intro nm t c
    obtain ⟨⟨al, big⟩, c⟩ := c
    refine ⟨⟨s.1 _ al, big⟩, ?_⟩
    have I : ∀ f, f ∈ tyI → gI h' f nm = gI h f nm := fun f hf => s.2.1 f nm hf al
    have P : ∀ f, f ∈ tyP → gP h' f nm = gP h f nm := fun f hf => s.2.2.1 f nm hf al
    rcases c with ⟨k, c⟩ | ⟨k, c⟩ | ⟨k, c⟩ | ⟨k, c1, c2, c3, c4⟩ | ⟨k, c1, ⟨c2, l2⟩, ⟨c3, l3⟩, ⟨c4, l4⟩, c5, c6⟩ | ⟨k, c1, c2, c3, x, c4, c5⟩ | ⟨k, c1, ⟨c2, l2⟩, c5, c6⟩ | ⟨k, c1, c2, c3, x, c4, c5⟩
    · exact Or.inl ⟨k, c.fr s al⟩
    · exact Or.inr (Or.inl ⟨k, c.fr s al⟩)
    · exact Or.inr (Or.inr (Or.inl ⟨k, c.fr s al⟩))
    · exact Or.inr (Or.inr (Or.inr (Or.inl ⟨k, c1, (I 800 (by decide)).trans c2, (P 1300 (by decide)).trans c3, c4.fr s⟩)))
    · refine Or.inr (Or.inr (Or.inr (Or.inr (Or.inl ⟨k, c1, ⟨(P 1000 (by decide)).trans c2, s.1 _ l2⟩, ⟨(P 1100 (by decide)).trans c3, s.1 _ l3⟩, ⟨(P 1101 (by decide)).trans c4, s.1 _ l4⟩, (I 1001 (by decide)).trans c5, fun q hq => ?_⟩))))
      obtain ⟨a1, a2, x, a3, a4⟩ := c6 q hq
      refine ⟨?_, fun w => ?_, x, ?_, ih a4⟩
      · rw [s.2.2.2.1 _ _ (by omega) l3]; exact a1
      · rw [s.2.2.2.1 _ _ (by omega) l4]; exact a2 w
      · rw [s.2.2.2.2 _ _ (by omega) l2]; exact a3
    · exact Or.inr (Or.inr (Or.inr (Or.inr (Or.inr (Or.inl ⟨k, c1, (P 1500 (by decide)).trans c2, c3.fr s, x, (P 1501 (by decide)).trans c4, ih c5⟩)))))
    · refine Or.inr (Or.inr (Or.inr (Or.inr (Or.inr (Or.inr (Or.inl ⟨k, c1, ⟨(P 1000 (by decide)).trans c2, s.1 _ l2⟩, (I 1001 (by decide)).trans c5, fun q hq => ?_⟩))))))
      obtain ⟨x, a3, a4⟩ := c6 q hq
      exact ⟨x, by rw [s.2.2.2.2 _ _ (by omega) l2]; exact a3, ih a4⟩
    · exact Or.inr (Or.inr (Or.inr (Or.inr (Or.inr (Or.inr (Or.inr ⟨k, c1, (I 1600 (by decide)).trans c2, (I 1601 (by decide)).trans c3, x, (P 1602 (by decide)).trans c4, ih c5⟩))))))
theorem CTy.mono {h : Hp} {τ : Tb} : ∀ {n m nm t : Nat}, n ≤ m → CTy h τ n nm t → CTy h τ m nm t := by
  intro n
  induction n with
  | zero => intro m nm t _ c; exact c.elim
  | succ n ih =>
    intro m nm t l c
    cases m with
    | zero => omega
    | succ m =>
      have l' : n ≤ m := by omega
      obtain ⟨al, c⟩ := c
      refine ⟨al, ?_⟩
      rcases c with c | c | c | c | ⟨k, c1, c2, c3, c4, c5, c6⟩ | ⟨k, c1, c2, c3, x, c4, c5⟩ | ⟨k, c1, c2, c5, c6⟩ | ⟨k, c1, c2, c3, x, c4, c5⟩
      · exact Or.inl c
      · exact Or.inr (Or.inl c)
      · exact Or.inr (Or.inr (Or.inl c))
      · exact Or.inr (Or.inr (Or.inr (Or.inl c)))
      · refine Or.inr (Or.inr (Or.inr (Or.inr (Or.inl ⟨k, c1, c2, c3, c4, c5, fun q hq => ?_⟩))))
        obtain ⟨a1, a2, x, a3, a4⟩ := c6 q hq
        exact ⟨a1, a2, x, a3, ih l' a4⟩
      · exact Or.inr (Or.inr (Or.inr (Or.inr (Or.inr (Or.inl ⟨k, c1, c2, c3, x, c4, ih l' c5⟩)))))
      · refine Or.inr (Or.inr (Or.inr (Or.inr (Or.inr (Or.inr (Or.inl ⟨k, c1, c2, c5, fun q hq => ?_⟩))))))
        obtain ⟨x, a3, a4⟩ := c6 q hq
        exact ⟨x, a3, ih l' a4⟩
      · exact Or.inr (Or.inr (Or.inr (Or.inr (Or.inr (Or.inr (Or.inr ⟨k, c1, c2, c3, x, c4, ih l' c5⟩))))))
