/-! THE CLASS READS (5): parts under way -/
set_option maxRecDepth 100000
/-- a part m0 of a kind under way: its number, its children so far -/
def GS (h0 h : Hp) (sb : Nat) (τ : Tb) (kd num : Int32) (m0 u0 : Nat) {d : Nat} (l : List (Nat × Vt d)) : Prop :=
  (FXs h ∧ StP h sb) ∧ (gI h 303 sb = zI ↑(m0 + 1 + szs l) ∧ gI h 304 sb = zI ↑(u0 + ozs l)) ∧ Bld h sb τ d m0 u0 l ∧ PF sb m0 h0 h ∧
  (gL h (sb + 10 + m0) = true ∧ gI h 1700 (sb + 10 + m0) = kd ∧ gI h 1701 (sb + 10 + m0) = num ∧ gI h 1702 (sb + 10 + m0) = zI u0) ∧ ∀ q, q < u0 → gA h (sb + 3) q = gA h0 (sb + 3) q
/-- what a child comes to, whatever way it was read -/
def KP (h h' : Hp) (sb m u : Nat) (τ : Tb) {d : Nat} (v : Vt d) : Prop :=
  StP h' sb ∧ gI h' 303 sb = zI ↑(m + sz d v) ∧ gI h' 304 sb = zI ↑(u + oz d v) ∧ CV h' sb τ d v m u ∧ PF sb m h h' ∧ ∀ q, q < u → gA h' (sb + 3) q = gA h (sb + 3) q
theorem Ch.fr3 {h h' : Hp} {sb d m1 u1 : Nat} {R R' : Vt d → Nat → Nat → Prop} (pos : ∀ (v : Vt d) i u, R v i u → 1 ≤ sz d v) (hR : ∀ (v : Vt d) i u, R v i u → i + sz d v ≤ m1 → u + oz d v ≤ u1 → R' v i u) (p : PF sb m1 h h') :
    ∀ (l : List (Nat × Vt d)) (o : Option Nat) (j u : Nat), Ch h sb R o l j u → j + szs l ≤ m1 → u + ozs l ≤ u1 → Ch h' sb R' o l j u := by
  intro l
  induction l with
  | nil => intro o j u c _ _; exact c
  | cons q l ih =>
    intro o j u c h1 h2
    obtain ⟨c1, c2, c3, c4⟩ := c
    have hp := pos _ _ _ c3
    rw [szs_cons] at h1
    rw [ozs_cons] at h2
    refine ⟨c1, ((p j (by omega) 1703).1).trans c2, hR _ _ _ c3 (by omega) (by omega), ?_⟩
    rw [(p j (by omega) 1708).2]
    exact ih _ _ _ c4 (by omega) (by omega)
theorem CV.fr2 {h h' : Hp} {sb m1 u1 : Nat} {τ : Tb} (al : ∀ x, gL h x = true → gL h' x = true) (p : PF sb m1 h h') (oc : ∀ q, q < u1 → gA h' (sb + 3) q = gA h (sb + 3) q) :
    ∀ {d : Nat} {v : Vt d} {i u : Nat}, CV h sb τ d v i u → i + sz d v ≤ m1 → u + oz d v ≤ u1 → CV h' sb τ d v i u := by
  intro d
  induction d with
  | zero => intro v i u c _ _; exact c.elim
  | succ d ih =>
    intro v i u c h1 h2
    rw [sz_s] at h1
    rw [oz_s] at h2
    obtain ⟨⟨c1, c2, c3, c4⟩, c5, c6⟩ := c
    have p0 := p i (by omega)
    refine ⟨⟨al _ c1, (p0 1700).1.trans c2, (p0 1701).1.trans c3, (p0 1702).1.trans c4⟩, fun q x hq => ?_, ?_⟩
    · have hl : q < (vO v).length := by
        rcases Nat.lt_or_ge q (vO v).length with a | a
        · exact a
        · rw [List.getElem?_eq_none a] at hq; cases hq
      rw [oc _ (by omega)]
      exact c5 q x hq
    · rw [(p0 1706).2]
      exact Ch.fr3 (fun v i u q => sz_pos q) (fun v i u q a b => ih q a b) p _ _ _ _ c6 (by omega) (by omega)
theorem SO.rf (h : Hp) : SO h h := ⟨rfl, rfl, rfl, fun _ _ _ => rfl, fun _ _ _ _ => rfl⟩
theorem SO.at {h : Hp} {g : Nat} {v : Int32} : SO h (sI h g 300 v) := ⟨rfl, rfl, rfl, fun g x hx => by simp only [gI_sI, hx, and_false, if_false], fun _ _ _ _ => rfl⟩
theorem SO.pf {h h' : Hp} {sb m : Nat} (s : SO h h') (hs : sb = 1000 ∨ sb = 2000) : PF sb m h h' := fun i _ f => ⟨s.2.2.2.1 f _ (by omega), by rw [s.1]⟩
theorem KP.so1 {h0 h h' : Hp} {sb m u d : Nat} {τ : Tb} {v : Vt d} (s : SO h0 h) (k : KP h h' sb m u τ v) : KP h0 h' sb m u τ v := by
  obtain ⟨k1, k2, k3, k4, k5, k6⟩ := k
  exact ⟨k1, k2, k3, k4, (s.pf k1.1).tr (Nat.le_refl _) k5, fun q hq => (k6 q hq).trans (s.2.2.2.2 _ _ (by have := k1.1; omega) (by have := k1.1; omega))⟩
theorem KP.so2 {h h' h2 : Hp} {sb m u d : Nat} {τ : Tb} {v : Vt d} (k : KP h h' sb m u τ v) (s : SO h' h2) : KP h h2 sb m u τ v := by
  obtain ⟨k1, k2, k3, k4, k5, k6⟩ := k
  have hs := k1.1
  have oc : ∀ q, gA h2 (sb + 3) q = gA h' (sb + 3) q := fun q => s.2.2.2.2 _ _ (by omega) (by omega)
  refine ⟨k1.eq s.1 s.2.1 s.2.2.1, (s.2.2.2.1 _ _ (by omega)).trans k2, (s.2.2.2.1 _ _ (by omega)).trans k3, k4.fr2 (fun x q => by rw [s.2.1]; exact q) (s.pf (m := m + sz d v) hs) (u1 := u + oz d v) (fun q _ => oc q) (Nat.le_refl _) (Nat.le_refl _), k5.tr (Nat.le_refl _) (s.pf hs), fun q hq => (oc q).trans (k6 q hq)⟩
section Gs
variable {h0 h h' : Hp} {sb F dd d m0 u0 : Nat} {τ : Tb} {kd num : Int32} {l : List (Nat × Vt d)}
/-- a part is made -/
theorem GS.mk0 (s : StP h sb) (hx : FXs h) (h3 : gI h 303 sb = zI m0) (h4 : gI h 304 sb = zI u0) (hm : m0 < 100) (d : Nat) :
    ∃ h', fX3_make F dd sb kd num h = some (some (sb + 10 + m0), h') ∧ GS h h' sb τ kd num m0 u0 ([] : List (Nat × Vt d)) ∧ EF S_X3_make h h' := by
  obtain ⟨h', e1, s1, M⟩ := make_ok (F := F) (d := dd) s h3 hm kd num
  obtain ⟨x1, ef⟩ := eX3_make F dd hx e1
  exact ⟨h', e1, ⟨⟨x1, s1⟩, ⟨M.1, M.2.1.trans h4⟩, ⟨M.2.2.2.2.1.1, fun q => absurd rfl q⟩, M.2.2.2.2.2.1, ⟨M.2.2.1, M.2.2.2.1.1, M.2.2.2.1.2.1, M.2.2.2.1.2.2.trans h4⟩, fun q hq => M.2.2.2.2.2.2 _ _ (by omega)⟩, ef⟩
/-- its children stay when parts behind it are made -/
theorem Bld.fr (B : Bld h sb τ d m0 u0 l) (al : ∀ x, gL h x = true → gL h' x = true) (p : PF sb (m0 + 1 + szs l) h h') (oc : ∀ q, q < u0 + ozs l → gA h' (sb + 3) q = gA h (sb + 3) q) : Bld h' sb τ d m0 u0 l := by
  obtain ⟨B1, B2⟩ := B
  have p0 := p m0 (by omega)
  refine ⟨?_, fun q => (p0 1707).2.trans (B2 q)⟩
  rw [(p0 1706).2]
  exact Ch.fr3 (fun v i u q => sz_pos q) (fun v i u q a b => q.fr2 al p oc a b) p l _ (m0 + 1) u0 B1 (Nat.le_refl _) (Nat.le_refl _)
theorem GS.nu {x : Int32} (G : GS h0 h sb τ kd num m0 u0 l) : GS h0 (sI h 1701 (sb + 10 + m0) x) sb τ kd x m0 u0 l := by
  obtain ⟨⟨g1, g2⟩, ⟨g3, g4⟩, g5, g6, ⟨g7, g8, g9, g10⟩, g11⟩ := G
  refine ⟨⟨g1, g2⟩, ⟨?_, ?_⟩, ⟨?_, g5.2⟩, fun i hi f => ⟨?_, (g6 i hi f).2⟩, ⟨g7, ?_, ?_, ?_⟩, g11⟩
  · rw [gI_sI, if_neg (by omega)]; exact g3
  · rw [gI_sI, if_neg (by omega)]; exact g4
  · refine Ch.fr (h := h) (fun v i u q => sz_pos q) (fun v i u q w => q.fr w) l _ (m0 + 1) u0 g5.1 ⟨fun q a b => ⟨rfl, ?_, ?_, ?_, rfl⟩, fun q a b => ⟨?_, rfl⟩, fun q a b => rfl⟩ (fun q a b => ⟨?_, rfl⟩)
    all_goals (rw [gI_sI, if_neg (by omega)])
  · rw [gI_sI, if_neg (by omega)]; exact (g6 i hi f).1
  · rw [gI_sI, if_neg (by omega)]; exact g8
  · rw [gI_sI, if_pos ⟨rfl, rfl⟩]
  · rw [gI_sI, if_neg (by omega)]; exact g10
/-- a child is put in -/
theorem GS.kid (G : GS h0 h sb τ kd num m0 u0 l) (hx : FXs h') (al : ∀ x, gL h x = true → gL h' x = true) {v : Vt d} (K : KP h h' sb (m0 + 1 + szs l) (u0 + ozs l) τ v) (k : Nat) :
    ∃ h2, fX17_add F dd (sb + 10 + m0) (sb + 10 + (m0 + 1 + szs l)) (zI k) h' = some h2 ∧ GS h0 h2 sb τ kd num m0 u0 (l ++ [(k, v)]) ∧ EF S_X17_add h' h2 := by
  obtain ⟨⟨g1, g2⟩, ⟨g3, g4⟩, g5, g6, ⟨g7, g8, g9, g10⟩, g11⟩ := G
  obtain ⟨k1, k2, k3, k4, k5, k6⟩ := K
  have B1 := g5.fr al k5 k6
  obtain ⟨h2, e1, B2, a1, a2, a3, a4, a5⟩ := add_ok (F := F) (d := dd) B1 k4 k
  obtain ⟨x2, ef⟩ := eX17_add F dd hx e1
  have sb1 := k1.1
  have p0 := k5 m0 (by omega)
  refine ⟨h2, e1, ⟨⟨x2, ?_⟩, ⟨?_, ?_⟩, B2, ?_, ⟨?_, ?_, ?_, ?_⟩, ?_⟩, ef⟩
  · refine ⟨sb1, ?_, ?_, ?_⟩
    · rw [a1]; exact k1.2.1
    · rw [a5 300 sb (by omega), a5 301 sb (by omega), a5 302 sb (by omega)]; exact k1.2.2.1
    · rw [a1, a3]; exact k1.2.2.2
  · rw [a4 303 sb (by omega), k2, szs_app, szs_cons, szs_nil]; simp only [Nat.add_zero, Nat.add_assoc]
  · rw [a4 304 sb (by omega), k3, ozs_app, ozs_cons, ozs_nil]; simp only [Nat.add_zero, Nat.add_assoc]
  · intro i hi f
    have q1 := k5 i (by omega) f
    exact ⟨(a4 f _ (by omega)).trans (q1.1.trans (g6 i hi f).1), (a5 f _ (by omega)).trans (q1.2.trans (g6 i hi f).2)⟩
  · rw [a1]; exact al _ g7
  · rw [a4 1700 _ (by omega)]; exact (p0 1700).1.trans g8
  · rw [a4 1701 _ (by omega)]; exact (p0 1701).1.trans g9
  · rw [a4 1702 _ (by omega)]; exact (p0 1702).1.trans g10
  · intro q hq
    rw [a2]; exact (k6 q (by omega)).trans (g11 q hq)
/-- it is whole -/
theorem GS.fin (G : GS h0 h sb τ kd num m0 u0 l) {q : Nat} (hk : kd = zI (tK τ q)) : KP h0 h sb m0 u0 τ (mkV q num [] l) := by
  obtain ⟨⟨g1, g2⟩, ⟨g3, g4⟩, g5, g6, ⟨g7, g8, g9, g10⟩, g11⟩ := G
  refine ⟨g2, ?_, ?_, ⟨⟨g7, g8.trans hk, g9, g10⟩, fun q x hq => (by cases hq), g5.1⟩, g6, g11⟩
  · rw [sz_mk, g3, Nat.add_assoc]
  · rw [oz_mk, g4]; simp
end Gs
