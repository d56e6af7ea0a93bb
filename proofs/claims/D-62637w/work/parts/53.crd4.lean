/-! THE CLASS READS (4): a leaf with its tag; a part under way and its children -/
set_option maxRecDepth 100000
/-- a digit as the class has it -/
def dgO (g : Option Nat) (dg : Int32) : Prop := match g with
  | none => dg = -1
  | some y => dg = zI y ∧ y ≤ 9
theorem sameTy_sI {h : Hp} {g x : Nat} {v : Int32} (hg : ¬ g ∈ tyI) : sameTy h (sI h g x v) :=
  ⟨fun _ q => q, fun f a hf _ => by rw [gI_sI, if_neg (show ¬ (f = g ∧ a = x) from fun w => hg (w.1 ▸ hf))], fun _ _ _ _ => rfl, fun _ _ _ _ => rfl, fun _ _ _ _ => rfl⟩
theorem sameTy.rf (h : Hp) : sameTy h h := ⟨fun _ q => q, fun _ _ _ _ => rfl, fun _ _ _ _ => rfl, fun _ _ _ _ => rfl, fun _ _ _ _ => rfl⟩
theorem sameTy.tr {h1 h2 h3 : Hp} (a : sameTy h1 h2) (b : sameTy h2 h3) : sameTy h1 h3 :=
  ⟨fun x q => b.1 x (a.1 x q), fun f x hf q => (b.2.1 f x hf (a.1 x q)).trans (a.2.1 f x hf q), fun f x hf q => (b.2.2.1 f x hf (a.1 x q)).trans (a.2.2.1 f x hf q),
   fun x i hx q => (b.2.2.2.1 x i hx (a.1 x q)).trans (a.2.2.2.1 x i hx q), fun x i hx q => (b.2.2.2.2 x i hx (a.1 x q)).trans (a.2.2.2.2 x i hx q)⟩
theorem tgB_lf {τ : Tb} {q : Nat} (k : ¬ (tK τ q = 6 ∨ tK τ q = 7)) : tgB τ q none = tK τ q ∧ ∀ y, tgB τ q (some y) = 128 + y := by
  unfold tgB
  rw [if_neg k]
  exact ⟨rfl, fun y => if_neg k⟩
theorem tgB_gr {τ : Tb} {q : Nat} (k : tK τ q = 6 ∨ tK τ q = 7) : tgB τ q none = 48 ∧ ∀ y, tgB τ q (some y) = 160 + y := by
  unfold tgB
  rw [if_pos k]
  exact ⟨rfl, fun y => if_pos k⟩
theorem StP.fr2 {S : SS} {h h' : Hp} {sb : Nat} (s : StP h sb) (ef : EF S h h') (c1 : ([300, 301, 302].all fun f => !S.2.1.contains f) = true) (c2 : (S.2.2.2.1.all fun f => !saF f 1001 && !saF f 2001) = true) (c3 : S.2.2.2.2.contains 13 = false) : StP h' sb := by
  obtain ⟨s0, ⟨a1, a2, a3, a4⟩, ⟨p1, p2, p3⟩, s3⟩ := s
  have q : ∀ f, f ∈ [300, 301, 302] → S.2.1.contains f = false := fun f hf => by have := List.all_eq_true.mp c1 f hf; simpa using this
  refine ⟨s0, ⟨ef.l a1, ef.l a2, ef.l a3, ef.l a4⟩, ⟨(ef.p _ a1 (q _ (by decide))).trans p1, (ef.p _ a1 (q _ (by decide))).trans p2, (ef.p _ a1 (q _ (by decide))).trans p3⟩, fun i hi => ?_⟩
  have r : gR h' (sb + 1) i = gR h (sb + 1) i := by
    apply ef.r i a2
    apply List.all_eq_true.mpr
    intro f hf
    have := List.all_eq_true.mp c2 f hf
    rw [Bool.and_eq_true] at this
    rcases s0 with z | z
    · rw [z]; exact this.1
    · rw [z]; exact this.2
  rcases s3 i hi with ⟨w1, w2⟩ | ⟨w1, w2⟩
  · left
    refine ⟨r.trans w1, ?_⟩
    cases z : gL h' (sb + 10 + i) with
    | false => rfl
    | true =>
      rcases ef.2.1 _ z with z2 | z2
      · rw [w2] at z2; cases z2
      · rw [nd_Kp s0 hi, c3] at z2; cases z2
  · right
    exact ⟨r.trans w1, ef.l w2⟩
section Rl
variable {sb f n e o F d : Nat} {b : Nat → Nat} {τ : Tb}
theorem lnR_f {a e x : Nat} (h : lnR b a e false = some (none, x)) : False := by
  unfold lnR lnF at h
  repeat' split at h
  all_goals first | (cases h; done) | contradiction
/-- a leaf: tag, length, content -/
theorem lf_ok {h : Hp} {a m u j : Nat} (R : RS h sb f n b a e o m u) {nm q : Nat} {dg : Int32} {g : Option Nat} (k : tK τ q = 1 ∨ tK τ q = 2 ∨ tK τ q = 4 ∨ tK τ q = 5) (c : CTy h τ (j + 1) nm q) (hF : 1000 ≤ F) (hg : dgO g dg) (d' : Nat) :
    ∃ r h', fX8_read F d nm 300 dg h = some (r, h') ∧ RP h h' sb f e o m u τ r (rd b τ (d' + 1) q g a e m) := by
  have hb := R.2.2.1.1
  have l2 := R.2.2.2.2.2.2.2.2.1
  have l1 := R.2.2.2.2.2.2.2.1
  have s := R.2.2.2.1
  have tg : gI h 800 nm = zI (tK τ q) ∧ (nd_Kd nm = 6 ∨ nd_Kd nm = 9) ∧ 10000 ≤ nm := by
    refine ⟨?_, ?_, c.1.2⟩
    · rcases c.2 with ⟨k, c⟩ | ⟨k, c⟩ | ⟨k, c⟩ | ⟨k, c1, c2, c3, c4⟩ | ⟨k2, -⟩ | ⟨k2, -⟩ | ⟨k2, -⟩ | ⟨k2, -⟩
      · rw [c.2.2.1, k]; rfl
      · rw [c.2.2.1, k]; rfl
      · rw [c.2.2.1, k]; rfl
      · rw [c2, k]; rfl
      all_goals (exfalso; omega)
    · rcases c.2 with ⟨k, c⟩ | ⟨k, c⟩ | ⟨k, c⟩ | ⟨k, c1, c2, c3, c4⟩ | ⟨k2, -⟩ | ⟨k2, -⟩ | ⟨k2, -⟩ | ⟨k2, -⟩
      · exact Or.inl c.1
      · exact Or.inl c.1
      · exact Or.inl c.1
      · exact Or.inr c1
      all_goals (exfalso; omega)
  have RC : ∀ (h1 : Hp) (x len : Nat), sameTy h h1 → RS h1 sb f n b x e o m u → x + len ≤ e → ∃ r h', v_readContent F d nm 300 (zI len) h1 = some (r, h') ∧
      RP h1 h' sb f e o m u τ r (if m < 100 then (match leaf b τ q x len with | none => none | some (y, os) => some ((mkV q y os [] : Vt (d' + 1)), x + len)) else none) := by
    intro h1 x len s1 R1 hx
    have c1 := (c.fr s1).2
    unfold v_readContent
    rcases c1 with ⟨k1, c1⟩ | ⟨k1, c1⟩ | ⟨k1, c1⟩ | ⟨k1, c1, c2, c3, c4⟩ | ⟨k2, -⟩ | ⟨k2, -⟩ | ⟨k2, -⟩ | ⟨k2, -⟩
    · rw [if_pos c1.1]; exact num_rc R1 (Or.inl ⟨k1, c1⟩) hF hx d'
    · rw [if_pos c1.1]; exact num_rc R1 (Or.inr (Or.inl ⟨k1, c1⟩)) hF hx d'
    · rw [if_pos c1.1]; exact num_rc R1 (Or.inr (Or.inr ⟨k1, c1⟩)) hF hx d'
    · rw [if_neg (by omega), if_pos c1]; exact oct_rc R1 k1 c3 c4 hF hx d'
    all_goals (exfalso; omega)
  have k6 : ¬ tK τ q = 10 := by omega
  have k9 : ¬ tK τ q = 9 := by omega
  have hK : tK τ q < 10 := by omega
  have tb := tgB_lf (τ := τ) (q := q) (by omega)
  have tb2 : tgB τ q g < 256 := by
    cases g with
    | none => rw [tb.1]; omega
    | some y => have := hg.2; rw [tb.2]; omega
  rw [rd_in k6 k9]
  unfold rdIn
  rw [if_neg (show ¬ tK τ q = 6 by omega), if_neg (show ¬ tK τ q = 7 by omega)]
  have e21 : ∀ hh : Hp, ∀ v : Int32, gI hh 800 nm = zI (tK τ q) → (if dg = -1 then fX8_read_21 F d nm 300 v (gI hh 800 nm) hh else fX8_read_21 F d nm 300 v (128 + dg) hh) = fX8_read_21 F d nm 300 v (zI (tgB τ q g)) hh := by
    intro hh v ht
    cases g with
    | none => rw [if_pos (show dg = -1 from hg), ht, tb.1]
    | some y =>
      have hy := hg.2
      rw [if_neg (show ¬ dg = -1 by rw [hg.1]; exact zn_m1 (by omega)), hg.1]
      rw [tb.2, ← zn_add]
      rfl
  unfold fX8_read
  by_cases ca : a < e
  · have hba := (R.2.2.1.2 a (by omega)).2
    rw [next_in R.2.1 R.2.2.1 R.2.2.2.2.1 ca l2, ca_s, e21 _ _ (by rw [gI_sI, if_neg (by omega)]; exact tg.1)]
    unfold fX8_read_21 rdLf
    by_cases cb : b a = tgB τ q g
    · rw [if_pos (show zI ↑(b a) = zI ↑(tgB τ q g) by rw [cb])]
      have R1 := R.at (x := a + 1) (by omega) (by omega)
      obtain ⟨v, h2, q1, q2⟩ := len_ok (F := F) (d := d) R1.2.1 R1.2.2.1 R1.2.2.2.2.1 (show a + 1 ≤ e by omega) l2 false
      rw [show (0 : Int32) = b2i false from rfl, q1, ca_s]
      cases hl : lnR b (a + 1) e false with
      | none =>
        rw [hl] at q2
        rw [q2, if_pos rfl]
        have E2 := (eX4_length F d R1.1 q1).2
        refine ⟨_, h2, rfl, RPn (R1.2.2.2.1.fr2 E2 (by decide) (by decide) (by decide)) ?_⟩
        by_cases hm : m < 100
        · rw [if_pos hm, if_pos ⟨ca, cb⟩]
        · rw [if_neg hm]
      | some w =>
        obtain ⟨w1, w2⟩ := w
        cases w1 with
        | none => exact (lnR_f hl).elim
        | some len =>
          rw [hl] at q2
          obtain ⟨r1, r2⟩ := q2
          obtain ⟨le1, le2⟩ := lnR_le hl
          simp only [Option.getD] at le2
          rw [r1, if_neg (show ¬ zI (len : Int) = -1 from zn_m1 (by omega)), r2, sI_sI]
          obtain ⟨r, h', e1, p1⟩ := RC (sI h 401 300 (zI ↑(f + w2))) w2 len (sameTy_sI (by decide)) (R.at (by omega) (by omega)) le2
          rw [e1, ca_s]
          refine ⟨r, h', rfl, ?_⟩
          have p2 := p1.at s.1
          by_cases hm : m < 100
          · rw [if_pos hm] at p2
            rw [if_pos hm, if_pos ⟨ca, cb⟩]
            show RP h h' sb f e o m u τ r (match leaf b τ q w2 len with | none => none | some (x, o) => some (mkV q x o [], w2 + len))
            cases hq : leaf b τ q w2 len with
            | none => rw [hq] at p2; exact p2
            | some z => obtain ⟨z1, z2⟩ := z; rw [hq] at p2; exact p2
          · rw [if_neg hm] at p2; rw [if_neg hm]; exact p2
    · rw [if_neg (show ¬ zI ↑(b a) = zI ↑(tgB τ q g) from fun w => cb ((zn_eq (by omega) (by omega)).mp w))]
      refine ⟨_, _, rfl, RPn s ?_⟩
      by_cases hm : m < 100
      · rw [if_pos hm, if_neg (fun w => cb w.2)]
      · rw [if_neg hm]
  · rw [next_out R.2.2.2.2.1 (by omega) (by omega), ca_s, e21 _ _ tg.1]
    unfold fX8_read_21 rdLf
    rw [if_neg (show ¬ (-1 : Int32) = zI ↑(tgB τ q g) from zn_m1' (by omega))]
    refine ⟨_, _, rfl, RPn s ?_⟩
    by_cases hm : m < 100
    · rw [if_pos hm, if_neg (fun w => ca w.1)]
    · rw [if_neg hm]
end Rl
