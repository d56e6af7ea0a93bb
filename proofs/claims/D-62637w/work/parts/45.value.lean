/-! VALUES of the class: parts and their links -/
set_option maxRecDepth 100000
def szs {n : Nat} (l : List (Nat × Vt n)) : Nat := (l.map fun q => sz n q.2).sum
def ozs {n : Nat} (l : List (Nat × Vt n)) : Nat := (l.map fun q => oz n q.2).sum
theorem szs_nil {n : Nat} : szs ([] : List (Nat × Vt n)) = 0 := rfl
theorem szs_cons {n : Nat} (q : Nat × Vt n) (l : List (Nat × Vt n)) : szs (q :: l) = sz n q.2 + szs l := by simp [szs]
theorem szs_app {n : Nat} (l m : List (Nat × Vt n)) : szs (l ++ m) = szs l + szs m := by simp [szs]
theorem ozs_nil {n : Nat} : ozs ([] : List (Nat × Vt n)) = 0 := rfl
theorem ozs_cons {n : Nat} (q : Nat × Vt n) (l : List (Nat × Vt n)) : ozs (q :: l) = oz n q.2 + ozs l := by simp [ozs]
theorem ozs_app {n : Nat} (l m : List (Nat × Vt n)) : ozs (l ++ m) = ozs l + ozs m := by simp [ozs]
theorem sz_s {n : Nat} (v : Vt (n + 1)) : sz (n + 1) v = 1 + szs (vK v) := rfl
theorem oz_s {n : Nat} (v : Vt (n + 1)) : oz (n + 1) v = (vO v).length + ozs (vK v) := rfl
/-- a chain of parts from a link on -/
def Ch (h : Hp) (sb : Nat) {n : Nat} (R : Vt n → Nat → Nat → Prop) : Option Nat → List (Nat × Vt n) → Nat → Nat → Prop
  | o, [], _, _ => o = none
  | o, q :: l, j, u => o = some (sb + 10 + j) ∧ gI h 1703 (sb + 10 + j) = zI q.1 ∧ R q.2 j u ∧ Ch h sb R (gP h 1708 (sb + 10 + j)) l (j + sz n q.2) (u + oz n q.2)
/-- the part i of the store stands for the value v, its octets from u on -/
def CV (h : Hp) (sb : Nat) (τ : Tb) : (n : Nat) → Vt n → Nat → Nat → Prop
  | 0, _, _, _ => False
  | n + 1, v, i, u => (gL h (sb + 10 + i) = true ∧ gI h 1700 (sb + 10 + i) = zI (tK τ (vT v)) ∧ gI h 1701 (sb + 10 + i) = vN v ∧ gI h 1702 (sb + 10 + i) = zI u) ∧
    (∀ (q x : Nat), (vO v)[q]? = some x → gA h (sb + 3) (u + q) = zI ↑x) ∧ Ch h sb (CV h sb τ n) (gP h 1706 (sb + 10 + i)) (vK v) (i + 1) (u + (vO v).length)
/-- heaps that are alike at the parts i .. j - 1, and, but for the i-th, at the links around them; and at octets -/
def PA (sb i j u w : Nat) (h h' : Hp) : Prop :=
  (∀ q, i ≤ q → q < j → gL h' (sb + 10 + q) = gL h (sb + 10 + q) ∧ gI h' 1700 (sb + 10 + q) = gI h 1700 (sb + 10 + q) ∧ gI h' 1701 (sb + 10 + q) = gI h 1701 (sb + 10 + q) ∧ gI h' 1702 (sb + 10 + q) = gI h 1702 (sb + 10 + q) ∧ gP h' 1706 (sb + 10 + q) = gP h 1706 (sb + 10 + q)) ∧
  (∀ q, i < q → q < j → gI h' 1703 (sb + 10 + q) = gI h 1703 (sb + 10 + q) ∧ gP h' 1708 (sb + 10 + q) = gP h 1708 (sb + 10 + q)) ∧ ∀ q, u ≤ q → q < w → gA h' (sb + 3) q = gA h (sb + 3) q
theorem PA.sub {sb i j u w i2 j2 u2 w2 : Nat} {h h' : Hp} (p : PA sb i j u w h h') (a : i ≤ i2) (b : j2 ≤ j) (c : u ≤ u2) (d : w2 ≤ w) : PA sb i2 j2 u2 w2 h h' :=
  ⟨fun q x y => p.1 q (by omega) (by omega), fun q x y => p.2.1 q (by omega) (by omega), fun q x y => p.2.2 q (by omega) (by omega)⟩
theorem sz_pos {n : Nat} {h : Hp} {sb : Nat} {τ : Tb} {v : Vt n} {i u : Nat} (c : CV h sb τ n v i u) : 1 ≤ sz n v := by
  cases n with
  | zero => exact c.elim
  | succ n => rw [sz_s]; omega
theorem Ch.fr {sb n : Nat} {h h' : Hp} {R R' : Vt n → Nat → Nat → Prop} (pos : ∀ v i u, R v i u → 1 ≤ sz n v) (hR : ∀ v i u, R v i u → PA sb i (i + sz n v) u (u + oz n v) h h' → R' v i u) :
    ∀ (l : List (Nat × Vt n)) (o : Option Nat) (j u : Nat), Ch h sb R o l j u → PA sb j (j + szs l) u (u + ozs l) h h' → (∀ q, j ≤ q → q < j + szs l → gI h' 1703 (sb + 10 + q) = gI h 1703 (sb + 10 + q) ∧ gP h' 1708 (sb + 10 + q) = gP h 1708 (sb + 10 + q)) → Ch h' sb R' o l j u := by
  intro l
  induction l with
  | nil => intro o j u c _ _; exact c
  | cons q l ih =>
    intro o j u c p e
    obtain ⟨c1, c2, c3, c4⟩ := c
    have hp := pos _ _ _ c3
    rw [szs_cons] at p e
    rw [ozs_cons] at p
    obtain ⟨e1, e2⟩ := e j (by omega) (by omega)
    refine ⟨c1, e1.trans c2, hR _ _ _ c3 (p.sub (by omega) (by omega) (by omega) (by omega)), ?_⟩
    rw [e2]
    exact ih _ _ _ c4 (p.sub (by omega) (by omega) (by omega) (by omega)) (fun x a b => e x (by omega) (by omega))
theorem CV.fr {sb : Nat} {h h' : Hp} {τ : Tb} : ∀ {n : Nat} {v : Vt n} {i u : Nat}, CV h sb τ n v i u → PA sb i (i + sz n v) u (u + oz n v) h h' → CV h' sb τ n v i u := by
  intro n
  induction n with
  | zero => intro v i u c _; exact c.elim
  | succ n ih =>
    intro v i u c p
    rw [sz_s, oz_s] at p
    obtain ⟨⟨c1, c2, c3, c4⟩, c5, c6⟩ := c
    obtain ⟨p1, p2, p3, p4, p5⟩ := p.1 i (by omega) (by omega)
    refine ⟨⟨p1.trans c1, p2.trans c2, p3.trans c3, p4.trans c4⟩, fun q x hq => ?_, ?_⟩
    · have hl : q < (vO v).length := by
        rcases Nat.lt_or_ge q (vO v).length with a | a
        · exact a
        · rw [List.getElem?_eq_none a] at hq; cases hq
      rw [p.2.2 _ (by omega) (by omega)]
      exact c5 q x hq
    · rw [p5]
      exact Ch.fr (fun v i u q => sz_pos q) (fun v i u q w => ih q w) _ _ _ _ c6 (p.sub (by omega) (by omega) (by omega) (by omega)) (fun q a b => p.2.1 q (by omega) (by omega))
/-- the chain with one more at its end; the last one's link now goes to it -/
theorem Ch.app {sb n : Nat} {h h' : Hp} {R R' : Vt n → Nat → Nat → Prop} (pos : ∀ v i u, R v i u → 1 ≤ sz n v) (hR : ∀ v i u, R v i u → PA sb i (i + sz n v) u (u + oz n v) h h' → R' v i u) (k : Nat) (v : Vt n) :
    ∀ (l : List (Nat × Vt n)) (o : Option Nat) (j u lst : Nat), l ≠ [] → Ch h sb R o l j u →
    (∀ q, j ≤ q → q < j + szs l → gL h' (sb + 10 + q) = gL h (sb + 10 + q) ∧ gI h' 1700 (sb + 10 + q) = gI h 1700 (sb + 10 + q) ∧ gI h' 1701 (sb + 10 + q) = gI h 1701 (sb + 10 + q) ∧ gI h' 1702 (sb + 10 + q) = gI h 1702 (sb + 10 + q) ∧ gP h' 1706 (sb + 10 + q) = gP h 1706 (sb + 10 + q)) →
    (∀ q, j ≤ q → q < j + szs l → gI h' 1703 (sb + 10 + q) = gI h 1703 (sb + 10 + q)) → (∀ q, j ≤ q → q < j + szs l → q ≠ lst → gP h' 1708 (sb + 10 + q) = gP h 1708 (sb + 10 + q)) →
    (∀ q, u ≤ q → q < u + ozs l → gA h' (sb + 3) q = gA h (sb + 3) q) →
    lst = j + szs l.dropLast → gP h' 1708 (sb + 10 + lst) = some (sb + 10 + (j + szs l)) →
    gI h' 1703 (sb + 10 + (j + szs l)) = zI k → R' v (j + szs l) (u + ozs l) → gP h' 1708 (sb + 10 + (j + szs l)) = none → Ch h' sb R' o (l ++ [(k, v)]) j u := by
  intro l
  induction l with
  | nil => intro o j u lst hn; exact absurd rfl hn
  | cons q l ih =>
    intro o j u lst _ c p e1 e2 oc hl g1 g2 g3 g4
    obtain ⟨c1, c2, c3, c4⟩ := c
    have hp := pos _ _ _ c3
    have es : szs (q :: l) = sz n q.2 + szs l := szs_cons q l
    have eo : ozs (q :: l) = oz n q.2 + ozs l := ozs_cons q l
    cases l with
    | nil =>
      have : lst = j := by rw [hl]; rfl
      subst this
      refine ⟨c1, (e1 lst (by omega) (by omega)).trans c2, hR _ _ _ c3 ⟨fun x a b => p x (by omega) (by omega), fun x a b => ⟨e1 x (by omega) (by omega), e2 x (by omega) (by omega) (by omega)⟩, fun x a b => oc x (by omega) (by omega)⟩, ?_⟩
      simp only [szs_cons, szs_nil, ozs_cons, ozs_nil, Nat.add_zero] at g1 g2 g3 g4
      exact ⟨g1, g2, g3, g4⟩
    | cons q2 l =>
      have hd : szs (q :: q2 :: l).dropLast = sz n q.2 + szs (q2 :: l).dropLast := by rw [List.dropLast_cons_of_ne_nil (by simp)]; exact szs_cons _ _
      refine ⟨c1, (e1 j (by omega) (by omega)).trans c2, hR _ _ _ c3 ⟨fun x a b => p x (by omega) (by omega), fun x a b => ⟨e1 x (by omega) (by omega), e2 x (by omega) (by omega) (by omega)⟩, fun x a b => oc x (by omega) (by omega)⟩, ?_⟩
      have e3 : ¬ j = lst := by omega
      rw [e2 j (by omega) (by omega) e3]
      have ea : j + szs (q :: q2 :: l) = (j + sz n q.2) + szs (q2 :: l) := by omega
      have eb : u + ozs (q :: q2 :: l) = (u + oz n q.2) + ozs (q2 :: l) := by omega
      rw [ea] at g1 g2 g3 g4
      rw [eb] at g3
      exact ih _ (j + sz n q.2) _ lst (by simp) c4 (fun x a b => p x (by omega) (by omega)) (fun x a b => e1 x (by omega) (by omega)) (fun x a b => e2 x (by omega) (by omega)) (fun x a b => oc x (by omega) (by omega)) (by omega) g1 g2 g3 g4
/-- a part under way: what it has so far -/
def Bld (h : Hp) (sb : Nat) (τ : Tb) (n i u : Nat) (l : List (Nat × Vt n)) : Prop :=
  Ch h sb (CV h sb τ n) (gP h 1706 (sb + 10 + i)) l (i + 1) u ∧ (l ≠ [] → gP h 1707 (sb + 10 + i) = some (sb + 10 + (i + 1 + szs l.dropLast)))
section Add
variable {h : Hp} {sb F d n i u : Nat} {τ : Tb} {l : List (Nat × Vt n)}
theorem add_ok (B : Bld h sb τ n i u l) {v : Vt n} (c : CV h sb τ n v (i + 1 + szs l) (u + ozs l)) (k : Nat) :
    ∃ h', fX17_add F d (sb + 10 + i) (sb + 10 + (i + 1 + szs l)) (zI k) h = some h' ∧ Bld h' sb τ n i u (l ++ [(k, v)]) ∧
      gL h' = gL h ∧ gA h' = gA h ∧ gR h' = gR h ∧ (∀ f x, ¬ (f = 1703 ∧ x = sb + 10 + (i + 1 + szs l)) → gI h' f x = gI h f x) ∧ (∀ f x, x < sb + 10 + i → gP h' f x = gP h f x) := by
  unfold fX17_add fX17_add_33
  simp only [bn_d]
  have np := sz_pos c
  cases l with
  | nil =>
    have b0 : gP h 1706 (sb + 10 + i) = none := B.1
    simp only [szs_nil, ozs_nil, Nat.add_zero] at c
    have e0 : gP (sP (sI h 1703 (sb + 10 + (i + 1 + szs ([] : List (Nat × Vt n)))) (zI k)) 1708 (sb + 10 + (i + 1 + szs ([] : List (Nat × Vt n)))) none) 1706 (sb + 10 + i) = none := by
      rw [gP_sP, if_neg (by omega), gP_sI]; exact b0
    rw [e0, oc_n]
    simp only [szs_nil, Nat.add_zero]
    refine ⟨_, rfl, ⟨?_, fun _ => ?_⟩, rfl, rfl, rfl, fun f x hx => ?_, fun f x hx => ?_⟩
    · show Ch _ sb _ _ [(k, v)] (i + 1) u
      refine ⟨?_, ?_, c.fr ⟨fun q a b => ⟨rfl, ?_, ?_, ?_, ?_⟩, fun q a b => ⟨?_, ?_⟩, fun q a b => rfl⟩, ?_⟩
      · simp [gI_sI, gI_sP, gI_sA, gI_sR, gI_sJ, gI_nw, gI_nx, gP_sI, gP_sP, gP_sA, gP_sR, gP_sJ, gP_nw, gP_nx, gA_sI, gA_sP, gA_sA, gA_sR, gA_sJ, gA_nw, gA_nx, gR_sI, gR_sP, gR_sA, gR_sR, gR_sJ, gR_nw, gR_nx]
      · simp [gI_sI, gI_sP, gI_sA, gI_sR, gI_sJ, gI_nw, gI_nx, gP_sI, gP_sP, gP_sA, gP_sR, gP_sJ, gP_nw, gP_nx, gA_sI, gA_sP, gA_sA, gA_sR, gA_sJ, gA_nw, gA_nx, gR_sI, gR_sP, gR_sA, gR_sR, gR_sJ, gR_nw, gR_nx]
      · simp [gI_sI, gI_sP, gI_sA, gI_sR, gI_sJ, gI_nw, gI_nx, gP_sI, gP_sP, gP_sA, gP_sR, gP_sJ, gP_nw, gP_nx, gA_sI, gA_sP, gA_sA, gA_sR, gA_sJ, gA_nw, gA_nx, gR_sI, gR_sP, gR_sA, gR_sR, gR_sJ, gR_nw, gR_nx]
      · simp [gI_sI, gI_sP, gI_sA, gI_sR, gI_sJ, gI_nw, gI_nx, gP_sI, gP_sP, gP_sA, gP_sR, gP_sJ, gP_nw, gP_nx, gA_sI, gA_sP, gA_sA, gA_sR, gA_sJ, gA_nw, gA_nx, gR_sI, gR_sP, gR_sA, gR_sR, gR_sJ, gR_nw, gR_nx]
      · simp [gI_sI, gI_sP, gI_sA, gI_sR, gI_sJ, gI_nw, gI_nx, gP_sI, gP_sP, gP_sA, gP_sR, gP_sJ, gP_nw, gP_nx, gA_sI, gA_sP, gA_sA, gA_sR, gA_sJ, gA_nw, gA_nx, gR_sI, gR_sP, gR_sA, gR_sR, gR_sJ, gR_nw, gR_nx]
      · simp only [gI_sI, gI_sP, gI_sA, gI_sR, gI_sJ, gI_nw, gI_nx, gP_sI, gP_sP, gP_sA, gP_sR, gP_sJ, gP_nw, gP_nx, gA_sI, gA_sP, gA_sA, gA_sR, gA_sJ, gA_nw, gA_nx, gR_sI, gR_sP, gR_sA, gR_sR, gR_sJ, gR_nw, gR_nx]; rw [if_neg (by omega), if_neg (by omega), if_neg (by omega)]
      · simp only [gI_sI, gI_sP, gI_sA, gI_sR, gI_sJ, gI_nw, gI_nx, gP_sI, gP_sP, gP_sA, gP_sR, gP_sJ, gP_nw, gP_nx, gA_sI, gA_sP, gA_sA, gA_sR, gA_sJ, gA_nw, gA_nx, gR_sI, gR_sP, gR_sA, gR_sR, gR_sJ, gR_nw, gR_nx]; rw [if_neg (by omega)]
      · simp only [gI_sI, gI_sP, gI_sA, gI_sR, gI_sJ, gI_nw, gI_nx, gP_sI, gP_sP, gP_sA, gP_sR, gP_sJ, gP_nw, gP_nx, gA_sI, gA_sP, gA_sA, gA_sR, gA_sJ, gA_nw, gA_nx, gR_sI, gR_sP, gR_sA, gR_sR, gR_sJ, gR_nw, gR_nx]; rw [if_neg (by omega), if_neg (by omega), if_neg (by omega)]
      · show gP _ 1708 (sb + 10 + (i + 1)) = none
        simp [gI_sI, gI_sP, gI_sA, gI_sR, gI_sJ, gI_nw, gI_nx, gP_sI, gP_sP, gP_sA, gP_sR, gP_sJ, gP_nw, gP_nx, gA_sI, gA_sP, gA_sA, gA_sR, gA_sJ, gA_nw, gA_nx, gR_sI, gR_sP, gR_sA, gR_sR, gR_sJ, gR_nw, gR_nx]
    · simp [gI_sI, gI_sP, gI_sA, gI_sR, gI_sJ, gI_nw, gI_nx, gP_sI, gP_sP, gP_sA, gP_sR, gP_sJ, gP_nw, gP_nx, gA_sI, gA_sP, gA_sA, gA_sR, gA_sJ, gA_nw, gA_nx, gR_sI, gR_sP, gR_sA, gR_sR, gR_sJ, gR_nw, gR_nx, szs]
    · simp only [gI_sI, gI_sP, gI_sA, gI_sR, gI_sJ, gI_nw, gI_nx, gP_sI, gP_sP, gP_sA, gP_sR, gP_sJ, gP_nw, gP_nx, gA_sI, gA_sP, gA_sA, gA_sR, gA_sJ, gA_nw, gA_nx, gR_sI, gR_sP, gR_sA, gR_sR, gR_sJ, gR_nw, gR_nx]; rw [if_neg hx]
    · simp only [gI_sI, gI_sP, gI_sA, gI_sR, gI_sJ, gI_nw, gI_nx, gP_sI, gP_sP, gP_sA, gP_sR, gP_sJ, gP_nw, gP_nx, gA_sI, gA_sP, gA_sA, gA_sR, gA_sJ, gA_nw, gA_nx, gR_sI, gR_sP, gR_sA, gR_sR, gR_sJ, gR_nw, gR_nx]; rw [if_neg (by omega), if_neg (by omega), if_neg (by omega)]
  | cons q0 l0 =>
    have hne : q0 :: l0 ≠ [] := by simp
    generalize hl : q0 :: l0 = l at *
    obtain ⟨B1, B2⟩ := B
    have b2 := B2 hne
    have b1 : gP h 1706 (sb + 10 + i) = some (sb + 10 + (i + 1)) := by
      have := B1; rw [← hl] at this; exact this.1
    have hdl : szs l.dropLast < szs l ∧ True := by
      refine ⟨?_, trivial⟩
      have hpos : ∀ (m : List (Nat × Vt n)) (o : Option Nat) (j u : Nat), m ≠ [] → Ch h sb (CV h sb τ n) o m j u → szs m.dropLast < szs m := by
        intro m
        induction m with
        | nil => intro o j u hm; exact absurd rfl hm
        | cons q m ih =>
          intro o j u _ cm
          have hp := sz_pos cm.2.2.1
          cases m with
          | nil => rw [szs_cons]; show 0 < _; omega
          | cons q2 m =>
            have := ih _ _ _ (by simp) cm.2.2.2
            rw [List.dropLast_cons_of_ne_nil (by simp), szs_cons, szs_cons q]
            omega
      exact hpos l _ _ _ hne B1
    have e0 : gP (sP (sI h 1703 (sb + 10 + (i + 1 + szs l)) (zI k)) 1708 (sb + 10 + (i + 1 + szs l)) none) 1706 (sb + 10 + i) = some (sb + 10 + (i + 1)) := by
      rw [gP_sP, if_neg (by omega), gP_sI]; exact b1
    have e1 : gP (sP (sI h 1703 (sb + 10 + (i + 1 + szs l)) (zI k)) 1708 (sb + 10 + (i + 1 + szs l)) none) 1707 (sb + 10 + i) = some (sb + 10 + (i + 1 + szs l.dropLast)) := by
      rw [gP_sP, if_neg (by omega), gP_sI]; exact b2
    rw [e0, oc_s, e1, nn_s]
    refine ⟨_, rfl, ⟨?_, fun _ => ?_⟩, rfl, rfl, rfl, fun f x hx => ?_, fun f x hx => ?_⟩
    · have e2 : ∀ hh : Hp, gP (sP (sP (sP (sI hh 1703 (sb + 10 + (i + 1 + szs l)) (zI k)) 1708 (sb + 10 + (i + 1 + szs l)) none) 1708 (sb + 10 + (i + 1 + szs l.dropLast)) (some (sb + 10 + (i + 1 + szs l)))) 1707 (sb + 10 + i) (some (sb + 10 + (i + 1 + szs l)))) 1706 (sb + 10 + i) = gP hh 1706 (sb + 10 + i) := by
        intro hh; simp [gI_sI, gI_sP, gI_sA, gI_sR, gI_sJ, gI_nw, gI_nx, gP_sI, gP_sP, gP_sA, gP_sR, gP_sJ, gP_nw, gP_nx, gA_sI, gA_sP, gA_sA, gA_sR, gA_sJ, gA_nw, gA_nx, gR_sI, gR_sP, gR_sA, gR_sR, gR_sJ, gR_nw, gR_nx]
      rw [e2]
      refine Ch.app (R := CV h sb τ n) (h := h) (fun v i u q => sz_pos q) (fun v i u q w => q.fr w) k v l _ (i + 1) u (i + 1 + szs l.dropLast) hne B1 (fun q a b => ⟨rfl, ?_, ?_, ?_, ?_⟩) (fun q a b => ?_) (fun q a b cc => ?_) (fun q a b => rfl) rfl ?_ ?_ (c.fr ⟨fun q a b => ⟨rfl, ?_, ?_, ?_, ?_⟩, fun q a b => ⟨?_, ?_⟩, fun q a b => rfl⟩) ?_
      · simp [gI_sI, gI_sP, gI_sA, gI_sR, gI_sJ, gI_nw, gI_nx, gP_sI, gP_sP, gP_sA, gP_sR, gP_sJ, gP_nw, gP_nx, gA_sI, gA_sP, gA_sA, gA_sR, gA_sJ, gA_nw, gA_nx, gR_sI, gR_sP, gR_sA, gR_sR, gR_sJ, gR_nw, gR_nx]
      · simp [gI_sI, gI_sP, gI_sA, gI_sR, gI_sJ, gI_nw, gI_nx, gP_sI, gP_sP, gP_sA, gP_sR, gP_sJ, gP_nw, gP_nx, gA_sI, gA_sP, gA_sA, gA_sR, gA_sJ, gA_nw, gA_nx, gR_sI, gR_sP, gR_sA, gR_sR, gR_sJ, gR_nw, gR_nx]
      · simp [gI_sI, gI_sP, gI_sA, gI_sR, gI_sJ, gI_nw, gI_nx, gP_sI, gP_sP, gP_sA, gP_sR, gP_sJ, gP_nw, gP_nx, gA_sI, gA_sP, gA_sA, gA_sR, gA_sJ, gA_nw, gA_nx, gR_sI, gR_sP, gR_sA, gR_sR, gR_sJ, gR_nw, gR_nx]
      · simp [gI_sI, gI_sP, gI_sA, gI_sR, gI_sJ, gI_nw, gI_nx, gP_sI, gP_sP, gP_sA, gP_sR, gP_sJ, gP_nw, gP_nx, gA_sI, gA_sP, gA_sA, gA_sR, gA_sJ, gA_nw, gA_nx, gR_sI, gR_sP, gR_sA, gR_sR, gR_sJ, gR_nw, gR_nx]
      · simp only [gI_sI, gI_sP, gI_sA, gI_sR, gI_sJ, gI_nw, gI_nx, gP_sI, gP_sP, gP_sA, gP_sR, gP_sJ, gP_nw, gP_nx, gA_sI, gA_sP, gA_sA, gA_sR, gA_sJ, gA_nw, gA_nx, gR_sI, gR_sP, gR_sA, gR_sR, gR_sJ, gR_nw, gR_nx]; rw [if_neg (by omega)]
      · simp only [gI_sI, gI_sP, gI_sA, gI_sR, gI_sJ, gI_nw, gI_nx, gP_sI, gP_sP, gP_sA, gP_sR, gP_sJ, gP_nw, gP_nx, gA_sI, gA_sP, gA_sA, gA_sR, gA_sJ, gA_nw, gA_nx, gR_sI, gR_sP, gR_sA, gR_sR, gR_sJ, gR_nw, gR_nx]; rw [if_neg (by omega), if_neg (by omega), if_neg (by omega)]
      · simp [gI_sI, gI_sP, gI_sA, gI_sR, gI_sJ, gI_nw, gI_nx, gP_sI, gP_sP, gP_sA, gP_sR, gP_sJ, gP_nw, gP_nx, gA_sI, gA_sP, gA_sA, gA_sR, gA_sJ, gA_nw, gA_nx, gR_sI, gR_sP, gR_sA, gR_sR, gR_sJ, gR_nw, gR_nx]
      · simp [gI_sI, gI_sP, gI_sA, gI_sR, gI_sJ, gI_nw, gI_nx, gP_sI, gP_sP, gP_sA, gP_sR, gP_sJ, gP_nw, gP_nx, gA_sI, gA_sP, gA_sA, gA_sR, gA_sJ, gA_nw, gA_nx, gR_sI, gR_sP, gR_sA, gR_sR, gR_sJ, gR_nw, gR_nx]
      · simp [gI_sI, gI_sP, gI_sA, gI_sR, gI_sJ, gI_nw, gI_nx, gP_sI, gP_sP, gP_sA, gP_sR, gP_sJ, gP_nw, gP_nx, gA_sI, gA_sP, gA_sA, gA_sR, gA_sJ, gA_nw, gA_nx, gR_sI, gR_sP, gR_sA, gR_sR, gR_sJ, gR_nw, gR_nx]
      · simp [gI_sI, gI_sP, gI_sA, gI_sR, gI_sJ, gI_nw, gI_nx, gP_sI, gP_sP, gP_sA, gP_sR, gP_sJ, gP_nw, gP_nx, gA_sI, gA_sP, gA_sA, gA_sR, gA_sJ, gA_nw, gA_nx, gR_sI, gR_sP, gR_sA, gR_sR, gR_sJ, gR_nw, gR_nx]
      · simp [gI_sI, gI_sP, gI_sA, gI_sR, gI_sJ, gI_nw, gI_nx, gP_sI, gP_sP, gP_sA, gP_sR, gP_sJ, gP_nw, gP_nx, gA_sI, gA_sP, gA_sA, gA_sR, gA_sJ, gA_nw, gA_nx, gR_sI, gR_sP, gR_sA, gR_sR, gR_sJ, gR_nw, gR_nx]
      · simp [gI_sI, gI_sP, gI_sA, gI_sR, gI_sJ, gI_nw, gI_nx, gP_sI, gP_sP, gP_sA, gP_sR, gP_sJ, gP_nw, gP_nx, gA_sI, gA_sP, gA_sA, gA_sR, gA_sJ, gA_nw, gA_nx, gR_sI, gR_sP, gR_sA, gR_sR, gR_sJ, gR_nw, gR_nx]
      · simp only [gI_sI, gI_sP, gI_sA, gI_sR, gI_sJ, gI_nw, gI_nx, gP_sI, gP_sP, gP_sA, gP_sR, gP_sJ, gP_nw, gP_nx, gA_sI, gA_sP, gA_sA, gA_sR, gA_sJ, gA_nw, gA_nx, gR_sI, gR_sP, gR_sA, gR_sR, gR_sJ, gR_nw, gR_nx]; rw [if_neg (by omega)]
      · simp only [gI_sI, gI_sP, gI_sA, gI_sR, gI_sJ, gI_nw, gI_nx, gP_sI, gP_sP, gP_sA, gP_sR, gP_sJ, gP_nw, gP_nx, gA_sI, gA_sP, gA_sA, gA_sR, gA_sJ, gA_nw, gA_nx, gR_sI, gR_sP, gR_sA, gR_sR, gR_sJ, gR_nw, gR_nx]; rw [if_neg (by omega), if_neg (by omega), if_neg (by omega)]
      · simp only [gI_sI, gI_sP, gI_sA, gI_sR, gI_sJ, gI_nw, gI_nx, gP_sI, gP_sP, gP_sA, gP_sR, gP_sJ, gP_nw, gP_nx, gA_sI, gA_sP, gA_sA, gA_sR, gA_sJ, gA_nw, gA_nx, gR_sI, gR_sP, gR_sA, gR_sR, gR_sJ, gR_nw, gR_nx]; rw [if_neg (by omega), if_neg (by omega)]; simp
    · simp [gI_sI, gI_sP, gI_sA, gI_sR, gI_sJ, gI_nw, gI_nx, gP_sI, gP_sP, gP_sA, gP_sR, gP_sJ, gP_nw, gP_nx, gA_sI, gA_sP, gA_sA, gA_sR, gA_sJ, gA_nw, gA_nx, gR_sI, gR_sP, gR_sA, gR_sR, gR_sJ, gR_nw, gR_nx]
    · simp only [gI_sI, gI_sP, gI_sA, gI_sR, gI_sJ, gI_nw, gI_nx, gP_sI, gP_sP, gP_sA, gP_sR, gP_sJ, gP_nw, gP_nx, gA_sI, gA_sP, gA_sA, gA_sR, gA_sJ, gA_nw, gA_nx, gR_sI, gR_sP, gR_sA, gR_sR, gR_sJ, gR_nw, gR_nx]; rw [if_neg hx]
    · simp only [gI_sI, gI_sP, gI_sA, gI_sR, gI_sJ, gI_nw, gI_nx, gP_sI, gP_sP, gP_sA, gP_sR, gP_sJ, gP_nw, gP_nx, gA_sI, gA_sP, gA_sA, gA_sR, gA_sJ, gA_nw, gA_nx, gR_sI, gR_sP, gR_sA, gR_sR, gR_sJ, gR_nw, gR_nx]; rw [if_neg (by omega), if_neg (by omega), if_neg (by omega)]
end Add
