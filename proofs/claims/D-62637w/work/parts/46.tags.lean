/-! SMALL METHODS of the class's types; bits; what a table's row keeps; tags -/
set_option maxRecDepth 100000
theorem zI_or (a b : Nat) : zI a ||| zI b = zI ↑(a ||| b) := by
  rw [← zI_nat, ← zI_nat, ← zI_nat]
  apply Int32.toBitVec_inj.mp
  simp
theorem zI_and (a b : Nat) : zI a &&& zI b = zI ↑(a &&& b) := by
  rw [← zI_nat, ← zI_nat, ← zI_nat]
  apply Int32.toBitVec_inj.mp
  simp
section Sm
variable {h : Hp} {F d : Nat}
theorem outs_ok (v lo hi : Int32) : fX1_outside F d v lo hi h = some (b2i (!inR v lo hi), h) := by
  unfold fX1_outside inR
  by_cases c : v < lo
  · have c1 : ¬ lo ≤ v := fun q => Int32.lt_irrefl (Int32.lt_of_lt_of_le c q)
    rw [if_pos c, decide_eq_false c1]; rfl
  · have c1 : lo ≤ v := Int32.not_lt.mp c
    rw [if_neg c, decide_eq_true c1]
    by_cases c2 : v ≤ hi
    · rw [if_pos c2, decide_eq_true c2]; rfl
    · rw [if_neg c2, decide_eq_false c2]; rfl
theorem b2i_0 (b : Bool) : (b2i b = 0) ↔ b = false := by cases b <;> decide
theorem b2i_1 (b : Bool) : (b2i b = 1) ↔ b = true := by cases b <;> decide
theorem byO_ok (v : Int32) : fX1_bytesOf F d v h = some (zI (byO v), h) := by
  unfold fX1_bytesOf byO
  simp only [outs_ok, ca_s, b2i_0, Bool.not_eq_false']
  by_cases c1 : inR v (-128) 127 = true
  · rw [if_pos c1, if_pos c1]; rfl
  rw [if_neg c1, if_neg c1]
  by_cases c2 : inR v (-32768) 32767 = true
  · rw [if_pos c2, if_pos c2]; rfl
  rw [if_neg c2, if_neg c2]
  by_cases c3 : inR v (-8388608) 8388607 = true
  · rw [if_pos c3, if_pos c3]; rfl
  rw [if_neg c3, if_neg c3]; rfl
/-- a number's bounds hold -/
def okN (bd : Bool) (lo hi v : Int32) : Bool := !bd || inR v lo hi
theorem rig_ok {nm : Nat} {k lo hi : Int32} {bd : Bool} (c : CNm h nm k bd lo hi) (v : Int32) : fX9_isRight F d nm v h = some (b2i (okN bd lo hi v), h) := by
  unfold fX9_isRight okN
  rw [c.2.2.2.1]
  cases bd with
  | false => rw [if_pos (by decide)]; rfl
  | true =>
    rw [if_neg (by decide), (c.2.2.2.2 rfl).1, (c.2.2.2.2 rfl).2, outs_ok, ca_s]
    cases inR v lo hi <;> rfl
theorem hol_ok {τ : Tb} {o t : Nat} (c : CSz h τ o t) (v : Int32) : fX14_holds F d o v h = some (b2i (if tB τ t then inR v (tLo τ t) (tHi τ t) else decide (v < 128)), h) := by
  unfold fX14_holds
  rw [c.2.1]
  cases q : tB τ t with
  | false =>
    rw [if_pos (by decide), if_neg (show ¬ (false = true) by decide)]
    by_cases c2 : 128 ≤ v
    · rw [if_pos c2, decide_eq_false (fun w => Int32.lt_irrefl (Int32.lt_of_lt_of_le w c2))]; rfl
    · rw [if_neg c2, decide_eq_true (Int32.not_le.mp c2)]; rfl
  | true =>
    rw [if_neg (by decide), if_pos rfl, (c.2.2 q).1, (c.2.2 q).2, outs_ok, ca_s]
    cases inR v (tLo τ t) (tHi τ t) <;> rfl
end Sm
/-- the tags of the first alternatives -/
def orS (τ : Tb) (q : Nat) : Nat → Nat
  | 0 => 0
  | k + 1 => orS τ q k ||| tS τ (tC τ q k)
/-- bounds of a size, of a number -/
def okS (τ : Tb) (t : Nat) : Prop := tB τ t = true → ∃ lo hi : Nat, tLo τ t = zI lo ∧ tHi τ t = zI hi ∧ lo ≤ hi ∧ hi ≤ 20
def okI (τ : Tb) (t : Nat) : Prop := tB τ t = true → ∃ (lo : Int) (n : Nat), tLo τ t = zI lo ∧ tHi τ t = zI (lo + n) ∧ -100000 ≤ lo ∧ lo + n ≤ 100000 ∧ n ≤ 65535
/-- a default fits -/
def dOK (τ : Tb) (q : Nat) (x : Int32) : Prop := (tK τ q = 1 ∧ (x = 0 ∨ x = 1)) ∨ (tK τ q = 2 ∧ (tB τ q = true → inR x (tLo τ q) (tHi τ q) = true))
theorem dOK.k {τ : Tb} {q : Nat} {x : Int32} (h : dOK τ q x) : tK τ q = 1 ∨ tK τ q = 2 := by
  rcases h with h | h
  · exact Or.inl h.1
  · exact Or.inr h.1
/-- what compiling makes sure of, for a row and all below it -/
def WFt (τ : Tb) : Nat → Nat → Prop
  | 0, _ => False
  | n + 1, t =>
    (tK τ t = 1 ∧ tS τ t = 2 ∧ tB τ t = false) ∨ (tK τ t = 2 ∧ tS τ t = 4 ∧ okI τ t) ∨ (tK τ t = 4 ∧ tS τ t = 16 ∧ okS τ t) ∨ (tK τ t = 5 ∧ tS τ t = 32 ∧ tB τ t = false) ∨
    (tK τ t = 6 ∧ tS τ t = 65536 ∧ tN τ t ≤ 6 ∧ ∀ k, k < tN τ t → tF τ t k ≤ 2 ∧ (tF τ t k = 2 → dOK τ (bas τ 200 (tC τ t k)) (tD τ t k)) ∧ WFt τ n (tC τ t k)) ∨
    (tK τ t = 7 ∧ tS τ t = 65536 ∧ okS τ t ∧ WFt τ n (tC τ t 0)) ∨
    (tK τ t = 9 ∧ tS τ t = orS τ t (tN τ t) ∧ (1 ≤ tN τ t ∧ tN τ t ≤ 6) ∧ (∀ j k, j < k → k < tN τ t → tS τ (tC τ t j) &&& tS τ (tC τ t k) = 0) ∧ ∀ k, k < tN τ t → WFt τ n (tC τ t k)) ∨
    (tK τ t = 10 ∧ tS τ t = 2 ^ (20 + tG τ t) ∧ tG τ t ≤ 9 ∧ WFt τ n (tC τ t 0))
theorem tS_lt {τ : Tb} : ∀ {n t : Nat}, WFt τ n t → tS τ t < 2 ^ 30 := by
  intro n
  induction n with
  | zero => intro t w; exact w.elim
  | succ n ih =>
    intro t w
    rcases w with ⟨-, w, -⟩ | ⟨-, w, -⟩ | ⟨-, w, -⟩ | ⟨-, w, -⟩ | ⟨-, w, -⟩ | ⟨-, w, -⟩ | ⟨-, w, -, -, w2⟩ | ⟨-, w, w2, -⟩
    · rw [w]; decide
    · rw [w]; decide
    · rw [w]; decide
    · rw [w]; decide
    · rw [w]; decide
    · rw [w]; decide
    · rw [w]
      have : ∀ k, k ≤ tN τ t → orS τ t k < 2 ^ 30 := by
        intro k
        induction k with
        | zero => intro _; show (0 : Nat) < 2 ^ 30; decide
        | succ k ihk => intro hk; exact Nat.or_lt_two_pow (ihk (by omega)) (ih (w2 k (by omega)))
      exact this _ (Nat.le_refl _)
    · rw [w]
      exact Nat.pow_lt_pow_right (by decide) (by omega)
section Tg
variable {h : Hp} {τ : Tb} {F : Nat}
theorem tags_4 {d nm t : Nat} {R : Nat → Hp → Option (Int32 × Hp)} (hF : 10 ≤ F) (h1 : gP h 1000 nm = some (nm + 1)) (hk : nd_Ln (nm + 1) = 6) (h2 : gI h 1001 nm = zI (tN τ t)) (hn : tN τ t ≤ 6)
    (hc : ∀ k, k < tN τ t → ∃ c, gR h (nm + 1) k = some c ∧ R c h = some (zI (tS τ (tC τ t k)), h)) :
    ∀ r k n, r = tN τ t - k → k ≤ tN τ t → r < n → fX12_tags_4 F d R n nm (zI (orS τ t k)) (zI k) h = some (zI (orS τ t (tN τ t)), h) := by
  intro r
  induction r with
  | zero =>
    intro k n hr hk2 hn2
    cases n with
    | zero => omega
    | succ n =>
      unfold fX12_tags_4
      have : k = tN τ t := by omega
      rw [h2, this, if_pos (Int32.le_refl _)]
  | succ r ih =>
    intro k n hr hk2 hn2
    cases n with
    | zero => omega
    | succ n =>
      unfold fX12_tags_4
      obtain ⟨c, c1, c2⟩ := hc k (by omega)
      rw [h2, if_neg (fun q => by rw [zn_le (by omega) (by omega)] at q; omega), h1, nn_s, hk, zn_inb (by omega) (by omega), ck_t, bn_d, zn_cl (by omega), c1, nn_s, c2, ca_s, bn_d, bn_d, zI_or, zn_succ]
      exact ih (k + 1) n (by omega) (by omega) (by omega)
theorem nd_Kd_Ln {nm : Nat} (h : 10000 ≤ nm) : nd_Ln nm = 6 := by unfold nd_Ln; rw [if_neg (by omega)]
theorem shl_ok : ∀ g : Nat, g ≤ 9 → (1 : Int32) <<< ((20 + zI g) &&& 31) = zI ((2 ^ (20 + g) : Nat) : Int) := by
  intro g hg
  have : g = 0 ∨ g = 1 ∨ g = 2 ∨ g = 3 ∨ g = 4 ∨ g = 5 ∨ g = 6 ∨ g = 7 ∨ g = 8 ∨ g = 9 := by omega
  rcases this with q | q | q | q | q | q | q | q | q | q <;> (subst q; decide +kernel)
theorem tags_ok (hF : 10 ≤ F) : ∀ {n nm t dd : Nat}, CTy h τ n nm t → WFt τ n t → n ≤ dd → v_tags F dd nm h = some (zI (tS τ t), h) := by
  intro n
  induction n with
  | zero => intro nm t dd c; exact c.elim
  | succ n ih =>
    intro nm t dd c w hd
    cases dd with
    | zero => omega
    | succ dd =>
      obtain ⟨⟨al, big⟩, c⟩ := c
      unfold v_tags
      rcases c with ⟨k, c⟩ | ⟨k, c⟩ | ⟨k, c⟩ | ⟨k, c1, c2, c3, c4⟩ | ⟨k, c1, c2⟩ | ⟨k, c1, c2⟩ | ⟨k, c1, ⟨c2, l2⟩, c5, c6⟩ | ⟨k, c1, c2, c3, x, c4, c5⟩
      · rw [if_pos c.1]; unfold fX8_tags; rw [c.2.2.1]
        rcases w with ⟨k2, w, -⟩ | ⟨k2, w, -⟩ | ⟨k2, w, -⟩ | ⟨k2, w, -⟩ | ⟨k2, w, -⟩ | ⟨k2, w, -⟩ | ⟨k2, w, -⟩ | ⟨k2, w, -⟩ <;> first | (exfalso; omega) | (rw [w]; rfl)
      · rw [if_pos c.1]; unfold fX8_tags; rw [c.2.2.1]
        rcases w with ⟨k2, w, -⟩ | ⟨k2, w, -⟩ | ⟨k2, w, -⟩ | ⟨k2, w, -⟩ | ⟨k2, w, -⟩ | ⟨k2, w, -⟩ | ⟨k2, w, -⟩ | ⟨k2, w, -⟩ <;> first | (exfalso; omega) | (rw [w]; rfl)
      · rw [if_pos c.1]; unfold fX8_tags; rw [c.2.2.1]
        rcases w with ⟨k2, w, -⟩ | ⟨k2, w, -⟩ | ⟨k2, w, -⟩ | ⟨k2, w, -⟩ | ⟨k2, w, -⟩ | ⟨k2, w, -⟩ | ⟨k2, w, -⟩ | ⟨k2, w, -⟩ <;> first | (exfalso; omega) | (rw [w]; rfl)
      · rw [if_neg (by omega), if_neg (by omega), if_neg (by omega), if_pos c1]; unfold fX8_tags; rw [c2]
        rcases w with ⟨k2, w, -⟩ | ⟨k2, w, -⟩ | ⟨k2, w, -⟩ | ⟨k2, w, -⟩ | ⟨k2, w, -⟩ | ⟨k2, w, -⟩ | ⟨k2, w, -⟩ | ⟨k2, w, -⟩ <;> first | (exfalso; omega) | (rw [w]; rfl)
      · rw [if_neg (by omega), if_pos c1]; unfold fX11_tags
        rcases w with ⟨k2, w, -⟩ | ⟨k2, w, -⟩ | ⟨k2, w, -⟩ | ⟨k2, w, -⟩ | ⟨k2, w, -⟩ | ⟨k2, w, -⟩ | ⟨k2, w, -⟩ | ⟨k2, w, -⟩ <;> first | (exfalso; omega) | (rw [w]; rfl)
      · rw [if_neg (by omega), if_neg (by omega), if_neg (by omega), if_neg (by omega), if_pos c1]; unfold fX15_tags
        rcases w with ⟨k2, w, -⟩ | ⟨k2, w, -⟩ | ⟨k2, w, -⟩ | ⟨k2, w, -⟩ | ⟨k2, w, -⟩ | ⟨k2, w, -⟩ | ⟨k2, w, -⟩ | ⟨k2, w, -⟩ <;> first | (exfalso; omega) | (rw [w]; rfl)
      · rw [if_neg (by omega), if_neg (by omega), if_pos c1]; unfold fX12_tags
        rcases w with ⟨k2, w, -⟩ | ⟨k2, w, -⟩ | ⟨k2, w, -⟩ | ⟨k2, w, -⟩ | ⟨k2, w, -⟩ | ⟨k2, w, -⟩ | ⟨k2, w, ⟨-, w2⟩, -, w3⟩ | ⟨k2, w, -⟩ <;> first | (exfalso; omega) | skip
        rw [w]
        refine tags_4 (τ := τ) (t := t) hF c2 (nd_Kd_Ln (by omega)) c5 w2 (fun q hq => ?_) (tN τ t) 0 F (by omega) (by omega) (by omega)
        obtain ⟨x, a3, a4⟩ := c6 q hq
        exact ⟨x, a3, ih a4 (w3 q hq) (by omega)⟩
      · rw [if_neg (by omega), if_neg (by omega), if_neg (by omega), if_neg (by omega), if_neg (by omega), if_pos c1]; unfold fX16_tags; rw [c2]
        rcases w with ⟨k2, w, -⟩ | ⟨k2, w, -⟩ | ⟨k2, w, -⟩ | ⟨k2, w, -⟩ | ⟨k2, w, -⟩ | ⟨k2, w, -⟩ | ⟨k2, w, -⟩ | ⟨k2, w, w2, -⟩ <;> first | (exfalso; omega) | skip
        rw [w, shl_ok _ w2]
end Tg
