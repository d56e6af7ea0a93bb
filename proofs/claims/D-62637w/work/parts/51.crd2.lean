/-! THE CLASS READS (2): numbers -/
set_option maxRecDepth 100000
section Rn
variable {h : Hp} {sb f n a e o m u F d : Nat} {b : Nat → Nat} {τ : Tb}
/-- the row q as a number of the class -/
def CNq (h : Hp) (τ : Tb) (nm q : Nat) : Prop := (tK τ q = 1 ∧ CNm h nm 1 true 0 1) ∨ (tK τ q = 5 ∧ CNm h nm 5 true 0 0) ∨ (tK τ q = 2 ∧ CNm h nm 2 (tB τ q) (tLo τ q) (tHi τ q))
theorem CNm.st {nm : Nat} {k lo hi v : Int32} {bd : Bool} (c : CNm h nm k bd lo hi) : CNm (sI h 401 300 v) nm k bd lo hi := by
  obtain ⟨c1, c2, c3, c4, c5⟩ := c
  refine ⟨c1, ?_, ?_, ?_, fun q => ⟨?_, ?_⟩⟩
  · rw [gI_sI, if_neg (by omega)]; exact c2
  · rw [gI_sI, if_neg (by omega)]; exact c3
  · rw [gI_sI, if_neg (by omega)]; exact c4
  · rw [gI_sI, if_neg (by omega)]; exact (c5 q).1
  · rw [gI_sI, if_neg (by omega)]; exact (c5 q).2
theorem rc111 (R : RS h sb f n b a e o m u) {nm q : Nat} {k lo hi x : Int32} {bd : Bool} (c : CNm h nm k bd lo hi) (hk : k = zI (tK τ q)) (d' : Nat) :
    ∃ r h', fX9_readContent_111 F d nm 300 x h = some (r, h') ∧ RP h h' sb f e o m u τ r (if m < 100 ∧ okN bd lo hi x = true then some ((mkV q x [] [] : Vt (d' + 1)), a) else none) := by
  unfold fX9_readContent_111
  rw [rig_ok c, ca_s]
  cases w : okN bd lo hi x with
  | false =>
    rw [if_pos (by decide), if_neg (fun q => by cases q.2)]
    exact ⟨_, h, rfl, R.2.2.2.1, rfl⟩
  | true =>
    rw [if_neg (by decide), R.2.1.2.2.1, nn_s]
    obtain ⟨r, h', e1, q1⟩ := giv_ok (F := F) (d := d) (τ := τ) (x := x) R c hk d'
    rw [e1, ca_s]
    refine ⟨r, h', rfl, ?_⟩
    by_cases hm : m < 100
    · rw [if_pos ⟨hm, rfl⟩]; rw [if_pos hm] at q1; exact q1
    · rw [if_neg (fun q => hm q.1)]; rw [if_neg hm] at q1; exact q1
theorem RPn {h' : Hp} {d : Nat} {x : Option (Vt d × Nat)} (s : StP h' sb) (hx : x = none) : RP h h' sb f e o m u τ none x := by subst hx; exact ⟨s, rfl⟩
theorem inR_out {x lo hi : Nat} (hx : x < 100000) (hlo : lo < 100000) (hhi : hi < 100000) : inR (zI x) (zI lo) (zI hi) = decide (lo ≤ x ∧ x ≤ hi) := by
  unfold inR
  rw [Bool.decide_and]
  congr 1
  · rw [decide_eq_decide]; exact zn_le (by omega) (by omega)
  · rw [decide_eq_decide]; exact zn_le (by omega) (by omega)
theorem rc41 {nm len lim : Nat} (R : RS h sb f n b a e o m u) (hF : 1000 ≤ F) (hl : a + len ≤ e) (h4 : lim ≤ 4) :
    fX9_readContent_41 F d nm 300 (zI len) (zI len) 1 (zI lim) h = if 1 ≤ len ∧ len ≤ lim then fX9_readContent_58 F d 1 nm 300 (zI len) (ivL (byL b a len)) (zI len) (sI h 401 300 (zI ↑(f + (a + len)))) else some (none, h) := by
  obtain ⟨hx, p, B, s, A, h3, h4, l1, l2, l3, l4⟩ := R
  have hb := B.1
  unfold fX9_readContent_41
  rw [outs_ok, ca_s, show (1 : Int32) = zI ↑(1 : Nat) from rfl, inR_out (by omega) (by omega) (by omega)]
  by_cases c : 1 ≤ len ∧ len ≤ lim
  · rw [decide_eq_true c, if_pos (show b2i (!true) = 0 by decide), if_pos c]
    have hba := (B.2 a (by omega)).2
    rw [next_in p B A (by omega) l2, ca_s, bn_d]
    obtain ⟨r, rfl⟩ : ∃ r, len = r + 1 := ⟨len - 1, by omega⟩
    rw [rc58 (sb := sb) (e := e) (n := n) (b := b) (f := f) (o := o) (by omega) r 1 _ F (sI h 401 300 (zI ↑(f + (a + 1)))) (a + 1) p B (A.st (a + 1)) l2 (by omega) (by omega) (by omega), sI_sI, ivL_s r hba]
    have e1 : a + 1 + r = a + (r + 1) := by omega
    rw [e1]
  · rw [decide_eq_false c, if_neg (show ¬ b2i (!false) = 0 by decide), if_neg c]
theorem num_rc (R : RS h sb f n b a e o m u) {nm q len : Nat} (c : CNq h τ nm q) (hF : 1000 ≤ F) (hl : a + len ≤ e) (d' : Nat) :
    ∃ r h', fX9_readContent F d nm 300 (zI len) h = some (r, h') ∧ RP h h' sb f e o m u τ r (if m < 100 then (match leaf b τ q a len with | none => none | some (x, os) => some ((mkV q x os [] : Vt (d' + 1)), a + len)) else none) := by
  have s := R.2.2.2.1
  have hb := R.2.2.1.1
  have l2 := R.2.2.2.2.2.2.2.2.1
  rcases c with ⟨k, c⟩ | ⟨k, c⟩ | ⟨k, c⟩
  · have L : leaf b τ q a len = if len = 1 then some (if b a = 0 then 0 else 1, []) else none := by
      unfold leaf; rw [if_neg (show ¬ tK τ q = 5 by omega), if_pos k]
    have E : fX9_readContent F d nm 300 (zI len) h = fX9_readContent_41 F d nm 300 (zI len) (zI len) 1 (zI ↑(1 : Nat)) h := by
      unfold fX9_readContent; rw [c.2.1]; rfl
    rw [L, E, rc41 R hF hl (by omega)]
    by_cases c1 : len = 1
    · subst c1
      have hba := (R.2.2.1.2 a (by omega)).2
      rw [if_pos (show 1 ≤ 1 ∧ 1 ≤ 1 by omega), if_pos (show 1 = 1 from rfl)]
      have z0 : ivL (byL b a 1) = 0 ↔ b a = 0 := by
        rw [ivL_s 0 hba]; exact (i8_ok hba).2
      obtain ⟨r, h', e1, q1⟩ := rc111 (F := F) (d := d) (τ := τ) (q := q) (x := if b a = 0 then 0 else 1) (R.at (x := a + 1) (by omega) (by omega)) c.st (by rw [k]; rfl) d'
      refine ⟨r, h', ?_, ?_⟩
      · rw [fX9_readContent_58, if_pos (show zI ↑(1 : Nat) ≤ zI ↑(1 : Nat) from Int32.le_refl _), gI_sI, if_neg (show ¬ (900 = 401 ∧ nm = 300) by omega), c.2.1, if_pos (show (1 : Int32) = 1 from rfl)]
        unfold fX9_readContent_97
        by_cases z : b a = 0
        · rw [if_pos (z0.mpr z)]; rw [if_pos z] at e1; exact e1
        · rw [if_neg (fun w => z (z0.mp w))]; rw [if_neg z] at e1; exact e1
      · have ok : okN true 0 1 (if b a = 0 then 0 else 1) = true := by split <;> decide
        by_cases hm : m < 100
        · rw [if_pos ⟨hm, ok⟩] at q1; rw [if_pos hm]; exact q1.at s.1
        · rw [if_neg (fun w => hm w.1)] at q1; rw [if_neg hm]; exact q1.at s.1
    · rw [if_neg (show ¬ (1 ≤ len ∧ len ≤ 1) by omega), if_neg c1]
      exact ⟨_, h, rfl, RPn s (by split <;> rfl)⟩
  · have L : leaf b τ q a len = if len = 0 then some (0, []) else none := by
      unfold leaf; rw [if_pos k]
    rw [L]
    unfold fX9_readContent
    rw [c.2.1, if_pos (show (5 : Int32) = 5 from rfl)]
    by_cases c1 : len = 0
    · subst c1
      rw [if_pos (show zI ↑(0 : Nat) = 0 from rfl), R.2.1.2.2.1, nn_s, if_pos (show 0 = 0 from rfl)]
      obtain ⟨r, h', e1, q1⟩ := giv_ok (F := F) (d := d) (τ := τ) (q := q) (x := 0) R c (by rw [k]; rfl) d'
      rw [e1, ca_s]
      exact ⟨r, h', rfl, q1⟩
    · rw [if_neg (zn_ne 0 (v := 0) c1 rfl (by omega) (by omega)), if_neg c1]
      exact ⟨_, h, rfl, RPn s (by split <;> rfl)⟩
  · have L : leaf b τ q a len = if (1 ≤ len ∧ len ≤ 4) ∧ byO (ivL (byL b a len)) = len ∧ (tB τ q = true → inR (ivL (byL b a len)) (tLo τ q) (tHi τ q) = true) then some (ivL (byL b a len), []) else none := by
      unfold leaf; rw [if_neg (show ¬ tK τ q = 5 by omega), if_neg (show ¬ tK τ q = 1 by omega), if_pos k]
    have E : fX9_readContent F d nm 300 (zI len) h = fX9_readContent_41 F d nm 300 (zI len) (zI len) 1 (zI ↑(4 : Nat)) h := by
      unfold fX9_readContent; rw [c.2.1]; rfl
    rw [L, E, rc41 R hF hl (by omega)]
    by_cases c1 : 1 ≤ len ∧ len ≤ 4
    · rw [if_pos c1]
      generalize hv : ivL (byL b a len) = v
      rw [fX9_readContent_58, if_pos (Int32.le_refl _), gI_sI, if_neg (show ¬ (900 = 401 ∧ nm = 300) by omega), c.2.1, if_neg (show ¬ (2 : Int32) = 1 by decide), byO_ok, ca_s]
      have hby : byO v ≤ 4 := by unfold byO; repeat' split
                                 all_goals omega
      by_cases c2 : byO v = len
      · rw [if_pos (show zI ↑(byO v) = zI ↑len by rw [c2])]
        obtain ⟨r, h', e1, q1⟩ := rc111 (F := F) (d := d) (τ := τ) (q := q) (x := v) (R.at (x := a + len) (by omega) hl) c.st (by rw [k]; rfl) d'
        refine ⟨r, h', e1, ?_⟩
        by_cases hm : m < 100
        · rw [if_pos hm]
          by_cases ok : okN (tB τ q) (tLo τ q) (tHi τ q) v = true
          · rw [if_pos ⟨hm, ok⟩] at q1
            rw [if_pos ⟨c1, c2, fun w => by unfold okN at ok; rw [w] at ok; simpa using ok⟩]; exact q1.at s.1
          · rw [if_neg (fun w => ok w.2)] at q1
            rw [if_neg (fun w => ok (by unfold okN; cases w2 : tB τ q with | false => rfl | true => simpa using w.2.2 w2))]; exact q1.at s.1
        · rw [if_neg (fun w => hm w.1)] at q1; rw [if_neg hm]; exact q1.at s.1
      · rw [if_neg (show ¬ zI ↑(byO v) = zI ↑len from fun w => c2 ((zn_eq (by omega) (by omega)).mp w))]
        refine ⟨_, _, rfl, RPn s ?_⟩
        by_cases hm : m < 100
        · rw [if_pos hm, if_neg (fun w => c2 w.2.1)]
        · rw [if_neg hm]
    · rw [if_neg c1]
      refine ⟨_, h, rfl, RPn s ?_⟩
      by_cases hm : m < 100
      · rw [if_pos hm, if_neg (fun w => c1 w.1)]
      · rw [if_neg hm]
end Rn
