/-! THE CLASS UNPACKS (2): leaves -/
set_option maxRecDepth 100000
/-- the state of unpacking: bit p, m parts, u octets -/
def US (h : Hp) (sb f n : Nat) (b : Nat → Nat) (p m u : Nat) : Prop :=
  FXs h ∧ SrcP h sb ∧ Buf h f n b ∧ StP h sb ∧ BtA h f n p ∧ gI h 303 sb = zI m ∧ gI h 304 sb = zI u ∧ (8 * u ≤ p ∧ p ≤ 8 * n ∧ m ≤ 100)
/-- what unpacking comes to -/
def UP (h h' : Hp) (sb f n m u : Nat) (τ : Tb) {d : Nat} (r : Option Nat) (res : Option (Vt d × Nat)) : Prop :=
  StP h' sb ∧ match res with
    | none => r = none
    | some (v, p') => r = some (sb + 10 + m) ∧ BtA h' f n p' ∧ KP h h' sb m u τ v
section Un
variable {h : Hp} {sb f n p m u F d : Nat} {b : Nat → Nat} {τ : Tb}
theorem UPn {h' : Hp} {d : Nat} {x : Option (Vt d × Nat)} (s : StP h' sb) (hx : x = none) : UP h h' sb f n m u τ none x := by subst hx; exact ⟨s, rfl⟩
theorem BtA.fr {S : SS} {h' : Hp} (A : BtA h f n p) (al : gL h 300 = true) (ef : EF S h h') (c : ([402, 403].all fun f => !S.1.contains f) = true) : BtA h' f n p := by
  have q : ∀ f, f ∈ [402, 403] → S.1.contains f = false := fun f hf => by have := List.all_eq_true.mp c f hf; simpa using this
  exact ⟨(ef.i _ al (q _ (by decide))).trans A.1, (ef.i _ al (q _ (by decide))).trans A.2⟩
theorem tkz_out (T p : Nat) (hp : T ≤ p) : ∀ k, tkz b T p k = 0 := by
  intro k
  induction k with
  | zero => rfl
  | succ k ih => rw [tkz, ih, if_neg (by omega)]
/-- the place may be moved -/
theorem US.at (S : US h sb f n b p m u) {x : Nat} (h1 : p ≤ x) (h2 : x ≤ 8 * n) : US (sI h 403 300 (zI ↑(8 * f + x))) sb f n b x m u := by
  obtain ⟨hx, P, B, s, A, h3, h4, l1, l2, l3⟩ := S
  have ns : ¬ sb = 300 := by rcases s.1 with q | q <;> omega
  exact ⟨hx, P, B, s, A.st x, by rw [gI_sI, if_neg (by omega)]; exact h3, by rw [gI_sI, if_neg (by omega)]; exact h4, by omega, h2, l3⟩
theorem UP.at {h' : Hp} {d g : Nat} {r : Option Nat} {res : Option (Vt d × Nat)} {v : Int32} (q : UP (sI h g 300 v) h' sb f n m u τ r res) : UP h h' sb f n m u τ r res := by
  obtain ⟨q1, q2⟩ := q
  refine ⟨q1, ?_⟩
  cases res with
  | none => exact q2
  | some w => exact ⟨q2.1, q2.2.1, q2.2.2.so1 SO.at⟩
/-- a number is made -/
theorem ugiv_ok (S : US h sb f n b p m u) {nm q : Nat} {k lo hi x : Int32} {bd : Bool} (c : CNm h nm k bd lo hi) (hk : k = zI (tK τ q)) (d' : Nat) :
    ∃ r h', fX9_given F d nm sb x h = some (r, h') ∧ UP h h' sb f n m u τ r (if m < 100 then some ((mkV q x [] [] : Vt (d' + 1)), p) else none) := by
  obtain ⟨hx, P, B, s, A, h3, h4, l1, l2, l3⟩ := S
  unfold fX9_given
  rw [c.2.1, ca_id]
  by_cases hm : m < 100
  · rw [if_pos hm]
    obtain ⟨h', e1, G, ef⟩ := GS.mk0 (F := F) (dd := d) (τ := τ) (kd := k) (num := x) s hx h3 h4 hm d'
    exact ⟨_, h', e1, G.1.2, rfl, A.fr P.1.1 ef (by decide), G.fin hk⟩
  · rw [if_neg hm, make_no h3 (by omega) (by omega)]
    exact ⟨_, h, rfl, s, rfl⟩
theorem CNm.st3 {nm g : Nat} {k lo hi v : Int32} {bd : Bool} (hg : ¬ g = 900 ∧ ¬ g = 800 ∧ ¬ g = 901 ∧ ¬ g = 902 ∧ ¬ g = 903) (c : CNm h nm k bd lo hi) : CNm (sI h g 300 v) nm k bd lo hi := by
  obtain ⟨c1, c2, c3, c4, c5⟩ := c
  refine ⟨c1, ?_, ?_, ?_, fun q => ⟨?_, ?_⟩⟩
  · rw [gI_sI, if_neg (by omega)]; exact c2
  · rw [gI_sI, if_neg (by omega)]; exact c3
  · rw [gI_sI, if_neg (by omega)]; exact c4
  · rw [gI_sI, if_neg (by omega)]; exact (c5 q).1
  · rw [gI_sI, if_neg (by omega)]; exact (c5 q).2
theorem okN_v {L : Int} {N v : Nat} (h1 : -100000 ≤ L) (h2 : L + N ≤ 100000) (hv : v < 65536) : okN true (zI L) (zI (L + N)) (zI L + zI v) = decide (v ≤ N) := by
  unfold okN inR
  rw [zI_add, Bool.not_true, Bool.false_or]
  have e1 : (zI L ≤ zI (L + v)) ↔ True := by rw [zI_le (by omega) (by omega) (by omega) (by omega)]; exact ⟨fun _ => trivial, fun _ => by omega⟩
  have e2 : (zI (L + v) ≤ zI (L + N)) ↔ v ≤ N := by rw [zI_le (by omega) (by omega) (by omega) (by omega)]; omega
  rw [decide_eq_true (e1.mpr trivial), Bool.true_and, decide_eq_decide]
  exact e2
/-- numbers with bounds -/
theorem ub_ok (S : US h sb f n b p m u) {nm q : Nat} {k : Int32} {L : Int} {N : Nat} (c : CNm h nm k true (zI L) (zI (L + N))) (h1 : -100000 ≤ L) (h2 : L + N ≤ 100000) (hN : N ≤ 65535) (hk : k = zI (tK τ q)) (hF : 1000 ≤ F) (d' : Nat) :
    ∃ r h', fX9_unpack F d nm 300 h = some (r, h') ∧ UP h h' sb f n m u τ r (if m < 100 then (match rng b (8 * n) N p with | none => none | some (v, p1) => some ((mkV q (zI L + Int32.ofNat v) [] [] : Vt (d' + 1)), p1)) else none) := by
  have S0 := S
  obtain ⟨hx, P, B, s, A, h3, h4, l1, l2, l3⟩ := S
  have hb := B.1
  have r1 := rgp_le N p
  have r2 := rwd_16 N
  have lt : tkz b (8 * n) (rgp N p) (rwd N) < 65536 := by
    have := tkz_lt b (8 * n) (rgp N p) (rwd N)
    have h2 : 2 ^ rwd N ≤ 2 ^ 16 := Nat.pow_le_pow_right (by decide) r2
    omega
  unfold fX9_unpack
  rw [c.2.2.2.1, if_neg (show ¬ b2i true = 0 by decide), (c.2.2.2.2 rfl).1, (c.2.2.2.2 rfl).2, tn_ok (N := N) P B A (by rw [zI_sub]; congr 1; omega) hN (by omega) hF, ca_s, thr_ok (h := sI h 403 300 (zI ↑(8 * f + (rgp N p + rwd N)))) (A.st _) hb (by omega), ca_s, rng_eq]
  by_cases c1 : rgp N p + rwd N ≤ 8 * n
  · rw [decide_eq_true c1, if_neg (show ¬ b2i true = 0 by decide), rig_ok (c.st3 (by omega)), ca_s, okN_v h1 h2 lt, tkz_in b _ _ _ c1]
    by_cases c2 : tkv b (rgp N p) (rwd N) ≤ N
    · rw [decide_eq_true c2, if_neg (show ¬ b2i true = 0 by decide), if_pos (show rgp N p + rwd N ≤ 8 * n ∧ tkv b (rgp N p) (rwd N) ≤ N from ⟨c1, c2⟩), gP_sI, P.2.2.1, nn_s]
      obtain ⟨r, h', e1, q1⟩ := ugiv_ok (F := F) (d := d) (τ := τ) (q := q) (x := zI L + zI ↑(tkv b (rgp N p) (rwd N))) (S0.at (x := rgp N p + rwd N) (by omega) c1) (c.st3 (by omega)) hk d'
      rw [e1, ca_s]
      refine ⟨r, h', rfl, ?_⟩
      show UP h h' sb f n m u τ r (if m < 100 then some ((mkV q (zI L + Int32.ofNat (tkv b (rgp N p) (rwd N))) [] [] : Vt (d' + 1)), rgp N p + rwd N) else none)
      rw [zI_nat]
      exact q1.at
    · rw [decide_eq_false c2, if_pos (show b2i false = 0 from rfl), if_neg (show ¬ (rgp N p + rwd N ≤ 8 * n ∧ tkv b (rgp N p) (rwd N) ≤ N) from fun w => c2 w.2)]
      exact ⟨_, _, rfl, UPn s (by split <;> rfl)⟩
  · rw [decide_eq_false c1, if_pos (show b2i false = 0 from rfl), if_neg (show ¬ (rgp N p + rwd N ≤ 8 * n ∧ tkv b (rgp N p) (rwd N) ≤ N) from fun w => c1 w.1)]
    exact ⟨_, _, rfl, UPn s (by split <;> rfl)⟩
/-- bytes -/
def octz (b : Nat → Nat) (T p n : Nat) : List Nat := (List.range n).map fun i => tkz b T (p + 8 * i) 8
theorem octz_s (T p r : Nat) : octz b T p (r + 1) = tkz b T p 8 :: octz b T (p + 8) r := by
  unfold octz
  rw [List.range_succ_eq_map, List.map_cons, List.map_map, show p + 8 * 0 = p by omega]
  refine congrArg (List.cons _) (List.map_congr_left fun x _ => ?_)
  show tkz b T (p + 8 * (x + 1)) 8 = tkz b T (p + 8 + 8 * x) 8
  rw [show p + 8 * (x + 1) = p + 8 + 8 * x by omega]
theorem octz_in {T p r : Nat} (h : p + 8 * r ≤ T) : octz b T p r = octs b p r := by
  unfold octz octs
  apply List.map_congr_left
  intro x hx
  have := List.mem_range.mp hx
  exact tkz_in b T _ 8 (by omega)
theorem un80 {nm len : Nat} (hl : len < 1000) (hF : 1000 ≤ F) : ∀ (r k : Nat) (v : Int32) (nf : Nat) (h : Hp) (p : Nat), SrcP h sb → Buf h f n b → BtA h f n p → p < 90000 - 8 * r → k + r = len → r < nf →
    fX9_unpack_80 F d nf nm 300 (zI len) v (zI k) h = fX9_unpack_80 F d 1 nm 300 (zI len) (ivS v (octz b (8 * n) p r)) (zI len) (sI h 403 300 (zI ↑(8 * f + (p + 8 * r)))) := by
  intro r
  induction r with
  | zero =>
    intro k v nf h p P B A hp hk hn
    cases nf with
    | zero => omega
    | succ nf =>
      have : k = len := by omega
      subst this
      rw [show 8 * f + (p + 8 * 0) = 8 * f + p from rfl, sI_id A.1]
      unfold fX9_unpack_80
      rw [if_pos (Int32.le_refl _), if_pos (Int32.le_refl _)]
      rfl
  | succ r ih =>
    intro k v nf h p P B A hp hk hn
    cases nf with
    | zero => omega
    | succ nf =>
      rw [fX9_unpack_80, if_neg (show ¬ zI ↑len ≤ zI ↑k from fun q => by rw [zn_le (by omega) (by omega)] at q; omega), show (8 : Int32) = zI ↑(8 : Nat) from rfl, take_ok P B A (by omega) (by omega) hF, ca_s, bn_d, bn_d, zn_succ]
      rw [ih (k + 1) _ nf (sI h 403 300 (zI ↑(8 * f + (p + 8)))) (p + 8) P B (A.st (p + 8)) (by omega) (by omega) (by omega), sI_sI, octz_s]
      have e1 : p + 8 + 8 * r = p + 8 * (r + 1) := by omega
      rw [e1]
      show _ = fX9_unpack_80 F d 1 nm 300 (zI ↑len) (ivS ((v <<< 8) ||| Int32.ofNat (tkz b (8 * n) p 8)) (octz b (8 * n) (p + 8) r)) (zI ↑len) _
      rw [zI_nat]
      rfl
/-- an int without bounds -/
theorem ui_ok (S : US h sb f n b p m u) {nm q : Nat} {k lo hi : Int32} (c : CNm h nm k false lo hi) (hk : k = zI (tK τ q)) (hF : 1000 ≤ F) (d' : Nat) :
    ∃ r h', fX9_unpack F d nm 300 h = some (r, h') ∧ UP h h' sb f n m u τ r (if m < 100 then (match tk b (8 * n) (al8 p) 8 with
         | none => none
         | some (l, p1) => if (1 ≤ l ∧ l ≤ 4) ∧ p1 + 8 * l ≤ 8 * n ∧ (true = true → byO (ivL (octs b p1 l)) = l) then some ((mkV q (ivL (octs b p1 l)) [] [] : Vt (d' + 1)), p1 + 8 * l) else none) else none) := by
  have S0 := S
  obtain ⟨hx, P, B, s, A, h3, h4, l1, l2, l3⟩ := S
  have hb := B.1
  have e1 : rgp 255 p = al8 p := rfl
  have e2 : rwd 255 = 8 := rfl
  have a8 : p ≤ al8 p ∧ al8 p ≤ p + 7 ∧ al8 p % 8 = 0 := by unfold al8; omega
  unfold fX9_unpack tk
  rw [c.2.2.2.1, if_pos (show b2i false = 0 from rfl), tn_ok (N := 255) P B A (by decide) (by omega) (by omega) hF, ca_s, e1, e2, outs_ok, ca_s, show (0 : Int32) + zI ↑(tkz b (8 * n) (al8 p) 8) = zI ↑(tkz b (8 * n) (al8 p) 8) from Int32.zero_add _]
  have lt : tkz b (8 * n) (al8 p) 8 < 256 := tkz_lt b (8 * n) (al8 p) 8
  rw [show (1 : Int32) = zI ↑(1 : Nat) from rfl, show (4 : Int32) = zI ↑(4 : Nat) from rfl, inR_out (by omega) (by omega) (by omega)]
  by_cases c1 : al8 p + 8 ≤ 8 * n
  · rw [if_pos c1]
    show ∃ r h', _ ∧ UP h h' sb f n m u τ r (if m < 100 then (if (1 ≤ tkv b (al8 p) 8 ∧ tkv b (al8 p) 8 ≤ 4) ∧ _ ∧ _ then _ else none) else none)
    rw [tkz_in b _ _ _ c1] at lt ⊢
    generalize tkv b (al8 p) 8 = l at *
    by_cases c2 : 1 ≤ l ∧ l ≤ 4
    · rw [decide_eq_true c2, if_pos (show b2i (!true) = 0 from rfl)]
      obtain ⟨r, rfl⟩ : ∃ r, l = r + 1 := ⟨l - 1, by omega⟩
      have A1 := A.st (al8 p + 8)
      have A2 := A.st (al8 p + 8 + 8)
      rw [show (8 : Int32) = zI ↑(8 : Nat) from rfl, take_ok (h := sI h 403 300 (zI ↑(8 * f + (al8 p + 8)))) P B A1 (by omega) (by omega) hF, ca_s, bn_d, sI_sI]
      rw [un80 (sb := sb) (n := n) (b := b) (f := f) (by omega) hF r 1 _ F (sI h 403 300 (zI ↑(8 * f + (al8 p + 8 + 8)))) (al8 p + 8 + 8) P B A2 (by omega) (by omega) (by omega), sI_sI]
      have e3 : al8 p + 8 + 8 + 8 * r = al8 p + 8 + 8 * (r + 1) := by omega
      have lt1 : tkz b (8 * n) (al8 p + 8) 8 < 256 := tkz_lt b (8 * n) (al8 p + 8) 8
      have iv : ivS (Int8.toInt32 (Int32.toInt8 (zI ↑(tkz b (8 * n) (al8 p + 8) 8)))) (octz b (8 * n) (al8 p + 8 + 8) r) = ivL (octz b (8 * n) (al8 p + 8) (r + 1)) := by
        rw [(i8_ok lt1).1, octz_s]; rfl
      rw [e3, iv, fX9_unpack_80, if_pos (Int32.le_refl _), thr_ok (h := sI h 403 300 (zI ↑(8 * f + (al8 p + 8 + 8 * (r + 1))))) (A.st _) hb (by omega), ca_s]
      by_cases c3 : al8 p + 8 + 8 * (r + 1) ≤ 8 * n
      · rw [decide_eq_true c3, if_neg (show ¬ b2i true = 0 by decide), octz_in c3, byO_ok, ca_s]
        generalize ivL (octs b (al8 p + 8) (r + 1)) = v
        have := byO_le v
        by_cases c4 : byO v = r + 1
        · rw [if_pos (show zI ↑(byO v) = zI ↑(r + 1) by rw [c4]), gP_sI, P.2.2.1, nn_s, if_pos (show ((1 ≤ r + 1 ∧ r + 1 ≤ 4) ∧ al8 p + 8 + 8 * (r + 1) ≤ 8 * n ∧ (true = true → byO v = r + 1)) from ⟨c2, c3, fun _ => c4⟩)]
          obtain ⟨r1, h', e4, q1⟩ := ugiv_ok (F := F) (d := d) (τ := τ) (q := q) (x := v) (S0.at (x := al8 p + 8 + 8 * (r + 1)) (by omega) c3) (c.st3 (by omega)) hk d'
          rw [e4, ca_s]
          exact ⟨r1, h', rfl, q1.at⟩
        · rw [if_neg (show ¬ zI ↑(byO v) = zI ↑(r + 1) from fun w => c4 ((zn_eq (by omega) (by omega)).mp w)), if_neg (show ¬ ((1 ≤ r + 1 ∧ r + 1 ≤ 4) ∧ al8 p + 8 + 8 * (r + 1) ≤ 8 * n ∧ (true = true → byO v = r + 1)) from fun w => c4 (w.2.2 rfl))]
          exact ⟨_, _, rfl, UPn s (by split <;> rfl)⟩
      · rw [decide_eq_false c3, if_pos (show b2i false = 0 from rfl), if_neg (show ¬ ((1 ≤ r + 1 ∧ r + 1 ≤ 4) ∧ al8 p + 8 + 8 * (r + 1) ≤ 8 * n ∧ (true = true → byO (ivL (octs b (al8 p + 8) (r + 1))) = r + 1)) from fun w => c3 w.2.1)]
        exact ⟨_, _, rfl, UPn s (by split <;> rfl)⟩
    · rw [decide_eq_false c2, if_neg (show ¬ b2i (!false) = 0 by decide), if_neg (show ¬ ((1 ≤ l ∧ l ≤ 4) ∧ al8 p + 8 + 8 * l ≤ 8 * n ∧ (true = true → byO (ivL (octs b (al8 p + 8) l)) = l)) from fun w => c2 w.1)]
      exact ⟨_, _, rfl, UPn s (by split <;> rfl)⟩
  · rw [if_neg c1, tkz_out _ _ (by omega), decide_eq_false (by omega), if_neg (show ¬ b2i (!false) = 0 by decide)]
    exact ⟨_, _, rfl, UPn s (by split <;> rfl)⟩
/-- a size as it is held -/
def hld (τ : Tb) (q : Nat) (x : Int32) : Bool := if tB τ q then inR x (tLo τ q) (tHi τ q) else decide (x < 128)
/-- how many there are -/
theorem cnt_ok (S : US h sb f n b p m u) {sz q : Nat} (c : CSz h τ sz q) (ok : okS τ q) (hF : 1000 ≤ F) :
    ∃ x p1, fX14_unpack F d sz 300 h = some (x, sI h 403 300 (zI ↑(8 * f + p1))) ∧ p ≤ p1 ∧ p1 ≤ p + 30 ∧ (match cnt b (8 * n) τ q p with
      | none => p1 ≤ 8 * n → hld τ q x = false
      | some (y, p2) => y = x ∧ p2 = p1 ∧ p1 ≤ 8 * n ∧ hld τ q x = true ∧ ∃ N : Nat, x = zI N ∧ N ≤ 127 ∧ (tB τ q = false → al8 p1 = p1)) := by
  obtain ⟨hx, P, B, s, A, h3, h4, l1, l2, l3⟩ := S
  have hb := B.1
  unfold fX14_unpack cnt hld
  rw [c.2.1]
  cases w : tB τ q with
  | false =>
    have e1 : rgp 255 p = al8 p := rfl
    have e2 : rwd 255 = 8 := rfl
    have a8 : p ≤ al8 p ∧ al8 p ≤ p + 7 ∧ al8 p % 8 = 0 := by unfold al8; omega
    rw [if_pos (show b2i false = 0 from rfl), tn_ok (N := 255) P B A (by decide) (by omega) (by omega) hF, ca_s, e1, e2, if_neg (show ¬ (false = true) by decide)]
    refine ⟨_, al8 p + 8, rfl, by omega, by omega, ?_⟩
    have lt : tkz b (8 * n) (al8 p) 8 < 256 := tkz_lt b (8 * n) (al8 p) 8
    rw [show (0 : Int32) + zI ↑(tkz b (8 * n) (al8 p) 8) = zI ↑(tkz b (8 * n) (al8 p) 8) from Int32.zero_add _]
    unfold tk
    by_cases c1 : al8 p + 8 ≤ 8 * n
    · rw [if_pos c1, tkz_in b _ _ _ c1]
      rw [tkz_in b _ _ _ c1] at lt
      show (match (if tkv b (al8 p) 8 ≤ 127 then some (Int32.ofNat (tkv b (al8 p) 8), al8 p + 8) else none) with | none => _ | some (y, p2) => _)
      by_cases c2 : tkv b (al8 p) 8 ≤ 127
      · rw [if_pos c2]
        refine ⟨zI_nat _, rfl, c1, ?_, _, rfl, c2, fun _ => by unfold al8; omega⟩
        rw [if_neg (show ¬ (false = true) by decide)]
        exact decide_eq_true ((zn_lt (b := 128) (by omega) (by omega)).mpr (by omega))
      · rw [if_neg c2]
        intro _
        rw [if_neg (show ¬ (false = true) by decide)]
        exact decide_eq_false (fun z => by have := (zn_lt (b := 128) (by omega) (by omega)).mp z; omega)
    · rw [if_neg c1]
      intro z
      omega
  | true =>
    obtain ⟨lo, hi, k1, k2, k3, k4⟩ := ok w
    have r1 := rgp_le (hi - lo) p
    have r2 := rwd_16 (hi - lo)
    rw [if_neg (show ¬ b2i true = 0 by decide), (c.2.2 w).1, (c.2.2 w).2, k1, k2, tn_ok (N := hi - lo) P B A (zn_sub (by omega)) (by omega) (by omega) hF, ca_s, if_pos rfl]
    refine ⟨_, rgp (hi - lo) p + rwd (hi - lo), rfl, by omega, by omega, ?_⟩
    have lt : tkz b (8 * n) (rgp (hi - lo) p) (rwd (hi - lo)) < 65536 := by
      have := tkz_lt b (8 * n) (rgp (hi - lo) p) (rwd (hi - lo))
      have h2 : 2 ^ rwd (hi - lo) ≤ 2 ^ 16 := Nat.pow_le_pow_right (by decide) r2
      omega
    have hspn : spn τ q = hi - lo := by unfold spn; rw [k1, k2, zn_sub (by omega), zn_cl (by omega)]
    unfold rngI
    rw [hspn, rng_eq]
    have hin : ∀ v : Nat, v < 65536 → inR (zI ↑lo + zI ↑v) (zI ↑lo) (zI ↑hi) = decide (v ≤ hi - lo) := by
      intro v hv
      rw [zn_add, inR_out (by omega) (by omega) (by omega), decide_eq_decide]
      omega
    by_cases c1 : rgp (hi - lo) p + rwd (hi - lo) ≤ 8 * n
    · rw [tkz_in b _ _ _ c1] at lt ⊢
      by_cases c2 : tkv b (rgp (hi - lo) p) (rwd (hi - lo)) ≤ hi - lo
      · rw [if_pos ⟨c1, c2⟩]
        refine ⟨by rw [k1, zI_nat], rfl, c1, by rw [if_pos rfl, hin _ lt, decide_eq_true c2], lo + tkv b (rgp (hi - lo) p) (rwd (hi - lo)), zn_add _ _, by omega, fun z => by cases z⟩
      · rw [if_neg (fun w => c2 w.2)]
        intro _
        rw [if_pos rfl, hin _ lt, decide_eq_false c2]
    · rw [if_neg (fun w => c1 w.1)]
      intro z
      omega
end Un
