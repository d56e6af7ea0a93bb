/-! THE CLASS WRITES (1): components, sizes -/
set_option maxRecDepth 100000
section Cs
variable {h : Hp} {sb F dd d : Nat} {τ : Tb}
theorem comp_lp {k : Nat} {v : Vt d} (hk : k < 100000) : ∀ (l1 l2 : List (Nat × Vt d)) (o : Option Nat) (j u nf : Nat), Ch h sb (CV h sb τ d) o (l1 ++ (k, v) :: l2) j u → (∀ q ∈ l1, q.1 < k) → l1.length < nf →
    fX17_component_5 F dd nf (zI k) o h = some (some (sb + 10 + (j + szs l1)), h) ∧ CV h sb τ d v (j + szs l1) (u + ozs l1) := by
  intro l1
  induction l1 with
  | nil =>
    intro l2 o j u nf c _ hn
    obtain ⟨c1, c2, c3, c4⟩ := c
    cases nf with
    | zero => omega
    | succ nf =>
      rw [fX17_component_5, c1, oc_s, c2, if_pos rfl]
      exact ⟨rfl, c3⟩
  | cons q l1 ih =>
    intro l2 o j u nf c hl hn
    obtain ⟨c1, c2, c3, c4⟩ := c
    have hq := hl q (List.mem_cons_self)
    cases nf with
    | zero => omega
    | succ nf =>
      rw [List.length_cons] at hn
      rw [fX17_component_5, c1, oc_s, c2, if_neg (show ¬ zI ↑q.1 = zI ↑k from fun w => by rw [zn_eq (by omega) (by omega)] at w; omega), bn_d]
      obtain ⟨e1, e2⟩ := ih l2 _ _ _ nf c4 (fun x hx => hl x (List.mem_cons_of_mem _ hx)) (by omega)
      rw [szs_cons, ozs_cons, show j + (sz d q.2 + szs l1) = j + sz d q.2 + szs l1 by omega, show u + (oz d q.2 + ozs l1) = u + oz d q.2 + ozs l1 by omega]
      exact ⟨e1, e2⟩
theorem comp_no {k : Nat} (hk : k < 100000) : ∀ (l : List (Nat × Vt d)) (o : Option Nat) (j u nf : Nat), Ch h sb (CV h sb τ d) o l j u → (∀ q ∈ l, q.1 ≠ k ∧ q.1 < 100000) → l.length < nf → fX17_component_5 F dd nf (zI k) o h = some (none, h) := by
  intro l
  induction l with
  | nil =>
    intro o j u nf c _ hn
    cases nf with
    | zero => omega
    | succ nf =>
      have c1 : o = none := c
      rw [fX17_component_5, c1, oc_n]
  | cons q l ih =>
    intro o j u nf c hl hn
    obtain ⟨c1, c2, c3, c4⟩ := c
    have hq := hl q (List.mem_cons_self)
    cases nf with
    | zero => omega
    | succ nf =>
      rw [List.length_cons] at hn
      rw [fX17_component_5, c1, oc_s, c2, if_neg (show ¬ zI ↑q.1 = zI ↑k from fun w => by rw [zn_eq (by omega) (by omega)] at w; omega), bn_d]
      exact ih _ _ _ nf c4 (fun x hx => hl x (List.mem_cons_of_mem _ hx)) (by omega)
/-- the components of a part from the k-th on: a list cut in two -/
def Cut (h : Hp) (sb : Nat) (τ : Tb) {d : Nat} (i u q k : Nat) (l1 l2 : List (Nat × Vt d)) : Prop :=
  Ch h sb (CV h sb τ d) (gP h 1706 (sb + 10 + i)) (l1 ++ l2) (i + 1) u ∧ (∀ p ∈ l1, p.1 < k) ∧ inc k l2 (tN τ q) ∧ l1.length + l2.length ≤ 6 ∧ tN τ q ≤ 6
/-- the next component is there -/
theorem Cut.yes {i u q k : Nat} {l1 l2 : List (Nat × Vt d)} {v : Vt d} (C : Cut h sb τ i u q k l1 ((k, v) :: l2)) (hF : 1000 ≤ F) :
    fX17_component F dd (sb + 10 + i) (zI k) h = some (some (sb + 10 + (i + 1 + szs l1)), h) ∧ CV h sb τ d v (i + 1 + szs l1) (u + ozs l1) ∧ Cut h sb τ i u q (k + 1) (l1 ++ [(k, v)]) l2 ∧ k < tN τ q := by
  obtain ⟨c1, c2, c3, c4, c5⟩ := C
  rw [List.length_cons] at c4
  have := c3.2.1
  obtain ⟨e1, e2⟩ := comp_lp (F := F) (dd := dd) (k := k) (by simp at this; omega) l1 l2 _ _ _ F c1 c2 (by omega)
  refine ⟨?_, e2, ⟨by rw [List.append_assoc]; exact c1, fun p hp => ?_, c3.2.2, by simp; omega, c5⟩, this⟩
  · unfold fX17_component; rw [bn_d]; exact e1
  · rcases List.mem_append.mp hp with z | z
    · have := c2 p z; omega
    · have : p = (k, v) := by simpa using z
      rw [this]; simp
/-- the next component is not there -/
theorem Cut.no {i u q k : Nat} {l1 l2 : List (Nat × Vt d)} (C : Cut h sb τ i u q k l1 l2) (hn : ∀ v l, l2 ≠ (k, v) :: l) (hF : 1000 ≤ F) (hk : k < 100000) :
    fX17_component F dd (sb + 10 + i) (zI k) h = some (none, h) ∧ Cut h sb τ i u q (k + 1) l1 l2 := by
  obtain ⟨c1, c2, c3, c4, c5⟩ := C
  have i2 : inc (k + 1) l2 (tN τ q) := by
    cases l2 with
    | nil => trivial
    | cons p l2 =>
      refine ⟨?_, c3.2⟩
      have h1 := c3.1
      rcases Nat.lt_or_ge k p.1 with z | z
      · omega
      · have : p.1 = k := by omega
        exact absurd (show p :: l2 = (k, p.2) :: l2 by rw [← this]) (hn _ _)
  refine ⟨?_, ⟨c1, fun p hp => by have := c2 p hp; omega, i2, c4, c5⟩⟩
  unfold fX17_component
  rw [bn_d]
  refine comp_no hk (l1 ++ l2) _ _ _ F c1 (fun p hp => ?_) (by simp; omega)
  rcases List.mem_append.mp hp with z | z
  · have := c2 p z; omega
  · have := i2.mem p z; omega
theorem Cut.or {i u q k : Nat} {l1 l2 : List (Nat × Vt d)} (_ : Cut h sb τ i u q k l1 l2) : (∃ v l, l2 = (k, v) :: l) ∨ (∀ v l, l2 ≠ (k, v) :: l) := by
  cases l2 with
  | nil => right; intro v l e; cases e
  | cons p l2 =>
    rcases Nat.decEq p.1 k with z | z
    · right; intro v l e; cases e; exact z rfl
    · left; exact ⟨p.2, l2, by rw [← z]⟩
/-- a sequence of the class -/
def CSq (h : Hp) (τ : Tb) (n nm t : Nat) : Prop := 10000 ≤ nm ∧ gP h 1000 nm = some (nm + 1) ∧ gP h 1100 nm = some (nm + 2) ∧ gP h 1101 nm = some (nm + 3) ∧ gI h 1001 nm = zI (tN τ t) ∧ tK τ t = 6 ∧
  ∀ k, k < tN τ t → gA h (nm + 2) k = zI (tF τ t k) ∧ tF τ t k ≤ 2 ∧ (tF τ t k = 2 → gA h (nm + 3) k = tD τ t k) ∧ ∃ c, gR h (nm + 1) k = some c ∧ CTy h τ n c (tC τ t k) ∧ WFt τ n (tC τ t k)
theorem CSq.of {n nm t : Nat} (c : CTy h τ (n + 1) nm t) (w : WFt τ (n + 1) t) (k : tK τ t = 6) : CSq h τ n nm t := by
  have w6 := w.seq k
  obtain ⟨al, c1⟩ := c
  rcases c1 with ⟨k2, -⟩ | ⟨k2, -⟩ | ⟨k2, -⟩ | ⟨k2, -⟩ | ⟨k2, c1, ⟨c2, c2l⟩, ⟨c3, c3l⟩, ⟨c4, c4l⟩, c5, c6⟩ | ⟨k2, -⟩ | ⟨k2, -⟩ | ⟨k2, -⟩
  all_goals first | (exfalso; omega) | skip
  refine ⟨al.2, c2, c3, c4, c5, k, fun j hj => ?_⟩
  obtain ⟨cF, cD, cc, c7, c8⟩ := c6 j hj
  obtain ⟨wF, wD, wk⟩ := w6.2 j hj
  exact ⟨cF, wF, cD, cc, c7, c8, wk⟩
theorem isW_yes {i u q k n nm : Nat} {l1 l2 : List (Nat × Vt d)} {v : Vt d} (C : Cut h sb τ i u q k l1 ((k, v) :: l2)) (S : CSq h τ n nm q) (hF : 1000 ≤ F) : fX11_isWritten F dd nm (sb + 10 + i) (zI k) h = some (b2i (!lft τ q (k, v)), h) := by
  obtain ⟨e1, cv, -, hk⟩ := C.yes (F := F) (dd := dd) hF
  obtain ⟨s0, s1, s2, s3, s4, s6, s5⟩ := S
  obtain ⟨f1, f2, f3, -⟩ := s5 k hk
  have h6 := C.2.2.2.2
  have n2 : nd_Ln (nm + 2) = 6 := nd_Kd_Ln (by omega)
  have n3 : nd_Ln (nm + 3) = 6 := nd_Kd_Ln (by omega)
  have ib : inb (zI ↑k) 6 = true := zn_inb (show k < 6 by omega) (by omega)
  have nv : gI h 1701 (sb + 10 + (i + 1 + szs l1)) = vNum d v := by
    cases d with
    | zero => exact cv.elim
    | succ d => exact cv.1.2.2.1
  unfold fX11_isWritten lft
  rw [e1, ca_s, oc_s, s2, nn_s, n2, ib, ck_t, zn_cl (by omega), f1, s6]
  by_cases c2 : tF τ q k = 2
  · rw [if_pos (show zI ↑(tF τ q k) = 2 by rw [c2]; rfl), s3, nn_s, n3, ib, ck_t, f3 c2, nv]
    by_cases c3 : vNum d v = tD τ q k
    · rw [if_pos c3]; simp [c2, c3, b2i]
    · rw [if_neg c3]; simp [c2, b2i]; exact fun w => c3 w.symm
  · rw [if_neg (show ¬ zI ↑(tF τ q k) = 2 from zn_ne 2 c2 rfl (by omega) (by omega))]
    simp [c2, b2i]
theorem isW_no {i u q k nm : Nat} {l1 l2 : List (Nat × Vt d)} (C : Cut h sb τ i u q k l1 l2) (hn : ∀ v l, l2 ≠ (k, v) :: l) (hF : 1000 ≤ F) (hk : k < 100000) : fX11_isWritten F dd nm (sb + 10 + i) (zI k) h = some (0, h) := by
  unfold fX11_isWritten
  rw [(C.no (F := F) (dd := dd) hn hF hk).1, ca_s, oc_n]
theorem hed_ok {n : Nat} (hn : n < 100000) : fX1_headed F dd (zI n) h = some (zI ↑(hl n + n), h) := by
  unfold fX1_headed hl
  by_cases c1 : 128 ≤ n
  · rw [if_pos (show (128 : Int32) ≤ zI ↑n from (zn_le (a := 128) (by omega) (by omega)).mpr c1)]
    by_cases c2 : 256 ≤ n
    · rw [if_pos (show (256 : Int32) ≤ zI ↑n from (zn_le (a := 256) (by omega) (by omega)).mpr c2), if_pos (show 255 < n by omega), show (4 : Int32) = zI ↑(4 : Nat) from rfl, zn_add, Nat.add_comm]
    · rw [if_neg (show ¬ (256 : Int32) ≤ zI ↑n from fun w => c2 ((zn_le (a := 256) (by omega) (by omega)).mp w)), if_neg (show ¬ 255 < n by omega), if_pos (show 127 < n by omega), show (3 : Int32) = zI ↑(3 : Nat) from rfl, zn_add, Nat.add_comm]
  · rw [if_neg (show ¬ (128 : Int32) ≤ zI ↑n from fun w => c1 ((zn_le (a := 128) (by omega) (by omega)).mp w)), if_neg (show ¬ 255 < n by omega), if_neg (show ¬ 127 < n by omega), show (2 : Int32) = zI ↑(2 : Nat) from rfl, zn_add, Nat.add_comm]
end Cs
