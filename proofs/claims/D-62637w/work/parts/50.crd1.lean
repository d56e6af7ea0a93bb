/-! THE CLASS READS (1): leaves -/
set_option maxRecDepth 100000
/-- the state of reading: place a, end e, o open, m parts, u octets -/
def RS (h : Hp) (sb f n : Nat) (b : Nat → Nat) (a e o m u : Nat) : Prop :=
  FXs h ∧ SrcP h sb ∧ Buf h f n b ∧ StP h sb ∧ SrcA h f a e o ∧ gI h 303 sb = zI m ∧ gI h 304 sb = zI u ∧ (a ≤ e ∧ e ≤ n ∧ u ≤ a ∧ m ≤ 100)
/-- what reading a value comes to -/
def RP (h h' : Hp) (sb f e o m u : Nat) (τ : Tb) {d : Nat} (r : Option Nat) (res : Option (Vt d × Nat)) : Prop :=
  StP h' sb ∧ match res with
    | none => r = none
    | some (v, a') => r = some (sb + 10 + m) ∧ SrcA h' f a' e o ∧ gI h' 303 sb = zI ↑(m + sz d v) ∧ gI h' 304 sb = zI ↑(u + oz d v) ∧ CV h' sb τ d v m u ∧ PF sb m h h' ∧
      (∀ q, q < u → gA h' (sb + 3) q = gA h (sb + 3) q) ∧ ∀ i, i < o → gA h' 301 i = gA h 301 i ∧ gA h' 302 i = gA h 302 i
theorem sI_id {h : Hp} {g x : Nat} {v : Int32} (q : gI h g x = v) : sI h g x v = h := by
  have : u2 h.2.1 g x v = h.2.1 := by
    funext i j
    unfold u2
    split
    · next c => rw [c.1, c.2, ← q]; rfl
    · rfl
  show (h.1, u2 h.2.1 g x v, h.2.2) = h
  rw [this]
section Rf
variable {h : Hp} {sb f n a e o m u F d : Nat} {b : Nat → Nat} {τ : Tb}
theorem leafCV {h' : Hp} {q : Nat} {x : Int32} (M : Made sb m (zI (tK τ q)) x h h') (hu : gI h 304 sb = zI u) (d : Nat) : CV h' sb τ (d + 1) (mkV q x [] []) m u := by
  obtain ⟨m1, m2, m3, ⟨m4, m5, m6⟩, ⟨m7, m8, m9⟩, m10, m11⟩ := M
  exact ⟨⟨m3, m4, m5, m6.trans hu⟩, fun q x hq => (by cases hq), m7⟩
theorem SrcA.fr {S : SS} {h' : Hp} (A : SrcA h f a e o) (al : gL h 300 = true) (ef : EF S h h') (c : ([401, 402, 407].all fun f => !S.1.contains f) = true) : SrcA h' f a e o := by
  have q : ∀ f, f ∈ [401, 402, 407] → S.1.contains f = false := fun f hf => by have := List.all_eq_true.mp c f hf; simpa using this
  exact ⟨(ef.i _ al (q _ (by decide))).trans A.1, (ef.i _ al (q _ (by decide))).trans A.2.1, (ef.i _ al (q _ (by decide))).trans A.2.2⟩
/-- a number is made -/
theorem giv_ok (R : RS h sb f n b a e o m u) {nm q : Nat} {k lo hi x : Int32} {bd : Bool} (c : CNm h nm k bd lo hi) (hk : k = zI (tK τ q)) (d' : Nat) :
    ∃ r h', fX9_given F d nm sb x h = some (r, h') ∧ RP h h' sb f e o m u τ r (if m < 100 then some ((mkV q x [] [] : Vt (d' + 1)), a) else none) := by
  obtain ⟨hx, p, B, s, A, h3, h4, l1, l2, l3, l4⟩ := R
  unfold fX9_given
  rw [c.2.1]
  by_cases hm : m < 100
  · rw [if_pos hm]
    obtain ⟨h', e1, s1, M⟩ := make_ok (F := F) (d := d) s h3 hm k x
    have ef := (eX3_make F d hx e1).2
    rw [e1, ca_s]
    have sbn : ¬ sb = 291 ∧ ¬ sb = 292 := by rcases s.1 with q | q <;> omega
    refine ⟨_, h', rfl, s1, rfl, A.fr p.1.1 ef (by decide), M.1, ?_, leafCV (by rw [← hk]; exact M) h4 d', M.2.2.2.2.2.1, fun q hq => M.2.2.2.2.2.2 _ _ (by omega), fun i hi => ⟨M.2.2.2.2.2.2 _ _ (by rcases s.1 with q | q <;> omega), M.2.2.2.2.2.2 _ _ (by rcases s.1 with q | q <;> omega)⟩⟩
    exact M.2.1.trans h4
  · rw [if_neg hm, make_no h3 (by omega) (by omega), ca_s]
    exact ⟨_, h, rfl, s, rfl⟩
def ivS (v : Int32) (l : List Nat) : Int32 := l.foldl (fun v x => (v <<< 8) ||| Int32.ofNat x) v
theorem byL_s (a r : Nat) : byL b a (r + 1) = b a :: byL b (a + 1) r := by
  unfold byL
  rw [List.range_succ_eq_map, List.map_cons, List.map_map]
  congr 1
  apply List.map_congr_left
  intro x _
  show b (a + (x + 1)) = b (a + 1 + x)
  congr 1; omega
theorem rc58 {nm len : Nat} (hl : len < 1000) : ∀ (r k : Nat) (v : Int32) (nf : Nat) (h : Hp) (a : Nat), SrcP h sb → Buf h f n b → SrcA h f a e o → e ≤ n → a + r ≤ e → k + r = len → r < nf →
    fX9_readContent_58 F d nf nm 300 (zI len) v (zI k) h = fX9_readContent_58 F d 1 nm 300 (zI len) (ivS v (byL b a r)) (zI len) (sI h 401 300 (zI ↑(f + (a + r)))) := by
  intro r
  induction r with
  | zero =>
    intro k v nf h a p B A he ha hk hn
    cases nf with
    | zero => omega
    | succ nf =>
      have : k = len := by omega
      subst this
      rw [show f + (a + 0) = f + a from rfl, sI_id A.1]
      unfold fX9_readContent_58
      rw [if_pos (Int32.le_refl _), if_pos (Int32.le_refl _)]
      rfl
  | succ r ih =>
    intro k v nf h a p B A he ha hk hn
    cases nf with
    | zero => omega
    | succ nf =>
      have hb := B.1
      rw [fX9_readContent_58]
      rw [if_neg (fun q => by rw [zn_le (by omega) (by omega)] at q; omega), next_in p B A (by omega) he, ca_s, bn_d, bn_d, zn_succ]
      rw [ih (k + 1) _ nf (sI h 401 300 (zI ↑(f + (a + 1)))) (a + 1) p B (A.st (a + 1)) he (by omega) (by omega) (by omega), sI_sI, byL_s]
      have e1 : a + 1 + r = a + (r + 1) := by omega
      rw [e1]
      show _ = fX9_readContent_58 F d 1 nm 300 (zI ↑len) (ivS ((v <<< 8) ||| Int32.ofNat (b a)) (byL b (a + 1) r)) (zI ↑len) _
      rw [zI_nat]
      rfl
theorem i8_tab : ((List.range 256).all fun x => decide (Int8.toInt32 (Int32.toInt8 (zI (x : Nat))) = ((if 127 < x then (-1 : Int32) else 0) <<< 8) ||| Int32.ofNat x) && (decide (Int8.toInt32 (Int32.toInt8 (zI (x : Nat))) = 0) == decide (x = 0))) = true := by decide +kernel
theorem i8_ok {x : Nat} (hx : x < 256) : Int8.toInt32 (Int32.toInt8 (zI x)) = ((if 127 < x then (-1 : Int32) else 0) <<< 8) ||| Int32.ofNat x ∧ (Int8.toInt32 (Int32.toInt8 (zI x)) = 0 ↔ x = 0) := by
  have := List.all_eq_true.mp i8_tab x (List.mem_range.mpr hx)
  rw [Bool.and_eq_true, decide_eq_true_eq] at this
  refine ⟨this.1, ?_⟩
  have h2 := eq_of_beq this.2
  exact ⟨fun q => by rw [decide_eq_true q] at h2; exact of_decide_eq_true h2.symm, fun q => by rw [decide_eq_true q] at h2; exact of_decide_eq_true h2⟩
theorem ivL_s (r : Nat) (hb : b a < 256) : ivL (byL b a (r + 1)) = ivS (Int8.toInt32 (Int32.toInt8 (zI ↑(b a)))) (byL b (a + 1) r) := by
  rw [(i8_ok hb).1, byL_s]
  rfl
theorem RS.at (R : RS h sb f n b a e o m u) {x : Nat} (h1 : a ≤ x) (h2 : x ≤ e) : RS (sI h 401 300 (zI ↑(f + x))) sb f n b x e o m u := by
  obtain ⟨hx, p, B, s, A, h3, h4, l1, l2, l3, l4⟩ := R
  have ns : ¬ sb = 300 := by rcases s.1 with q | q <;> omega
  exact ⟨hx, p, B, s, A.st x, by rw [gI_sI, if_neg (by omega)]; exact h3, by rw [gI_sI, if_neg (by omega)]; exact h4, h2, l2, by omega, l4⟩
theorem RP.at {h' : Hp} {d : Nat} {r : Option Nat} {res : Option (Vt d × Nat)} {v : Int32} (hs : sb = 1000 ∨ sb = 2000) (q : RP (sI h 401 300 v) h' sb f e o m u τ r res) : RP h h' sb f e o m u τ r res := by
  obtain ⟨q1, q2⟩ := q
  refine ⟨q1, ?_⟩
  cases res with
  | none => exact q2
  | some w =>
    obtain ⟨a1, a2, a3, a4, a5, a6, a7⟩ := q2
    refine ⟨a1, a2, a3, a4, a5, fun i hi g => ⟨(a6 i hi g).1.trans ?_, (a6 i hi g).2⟩, a7⟩
    rw [gI_sI, if_neg (by rcases hs with w | w <;> omega)]
end Rf
