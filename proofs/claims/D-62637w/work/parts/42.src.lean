/-! THE SOURCE: bytes -/
set_option maxRecDepth 100000
theorem zn_lt {a b : Nat} (ha : a < 2147483648) (hb : b < 2147483648) : zI a < zI b ↔ a < b := by rw [zI_lt (by omega) (by omega) (by omega) (by omega)]; omega
theorem zn_le {a b : Nat} (ha : a < 2147483648) (hb : b < 2147483648) : zI a ≤ zI b ↔ a ≤ b := by rw [zI_le (by omega) (by omega) (by omega) (by omega)]; omega
theorem zn_eq {a b : Nat} (ha : a < 2147483648) (hb : b < 2147483648) : zI a = zI b ↔ a = b := by rw [zI_eq (by omega) (by omega) (by omega) (by omega)]; omega
theorem zn_cl {a : Nat} (ha : a < 2147483648) : (zI a).toNatClampNeg = a := by rw [zI_cl (by omega) (by omega)]; omega
theorem zn_inb {a n : Nat} (ha : a < n) (hn : n < 2147483648) : inb (zI a) n = true := zI_inb (by omega) (by omega) (by omega)
theorem zn_add (a b : Nat) : zI a + zI b = zI ↑(a + b) := by rw [zI_add]; rfl
theorem zn_sub {a b : Nat} (h : b ≤ a) : zI a - zI b = zI ↑(a - b) := by rw [zI_sub]; congr 1; omega
theorem zn_succ (a : Nat) : zI a + 1 = zI ↑(a + 1) := zn_add a 1
theorem zn_pred {a : Nat} (h : 1 ≤ a) : zI a - 1 = zI ↑(a - 1) := zn_sub (b := 1) h
theorem zn_nn (a : Nat) (ha : a < 2147483648) : ¬ zI a < 0 := by
  rw [show (0 : Int32) = zI ↑(0 : Nat) from rfl, zn_lt ha (by omega)]; omega
theorem zn_neg {a z : Int} (ha : 0 ≤ a) (ha2 : a ≤ 2147483647) (hz : z < 0) (hz2 : -2147483648 ≤ z) : ¬ zI a = zI z := by
  rw [zI_eq (by omega) ha2 hz2 (by omega)]; omega
theorem zn_m1 {a : Nat} (ha : a < 2147483648) : ¬ zI a = -1 := zn_neg (z := -1) (by omega) (by omega) (by decide) (by decide)
theorem zn_m1' {a : Nat} (ha : a < 2147483648) : ¬ -1 = zI a := fun w => zn_m1 ha w.symm
theorem zn_ne {a : Nat} (k : Nat) {v : Int32} (h : ¬ a = k) (hv : v = zI k) (ha : a < 2147483648) (hk : k < 2147483648) : ¬ zI a = v := by rw [hv, zn_eq ha hk]; exact h
/-- the source's cells; the bytes from f on; the place, the end, what is open -/
def SrcP (h : Hp) (sb : Nat) : Prop := (gL h 300 = true ∧ gL h 301 = true ∧ gL h 302 = true ∧ gL h 101 = true) ∧ gP h 400 300 = some 101 ∧ gP h 404 300 = some sb ∧ gP h 405 300 = some 301 ∧ gP h 406 300 = some 302
def Buf (h : Hp) (f n : Nat) (b : Nat → Nat) : Prop := f + n ≤ 120 ∧ ∀ i, i < n → gA h 101 (f + i) = zI (b i) ∧ b i < 256
def SrcA (h : Hp) (f a e o : Nat) : Prop := gI h 401 300 = zI ↑(f + a) ∧ gI h 402 300 = zI ↑(f + e) ∧ gI h 407 300 = zI o
section Src
variable {h : Hp} {sb f n a e o F d : Nat} {b : Nat → Nat}
theorem SrcP.fr {S : SS} {h' : Hp} (s : SrcP h sb) (ef : EF S h h') (c : ([400, 404, 405, 406].all fun f => !S.2.1.contains f) = true) : SrcP h' sb := by
  obtain ⟨⟨l1, l2, l3, l4⟩, p1, p2, p3, p4⟩ := s
  have q : ∀ f, f ∈ [400, 404, 405, 406] → S.2.1.contains f = false := fun f hf => by have := List.all_eq_true.mp c f hf; simpa using this
  refine ⟨⟨ef.l l1, ef.l l2, ef.l l3, ef.l l4⟩, ?_, ?_, ?_, ?_⟩
  · rw [ef.p _ l1 (q _ (by decide))]; exact p1
  · rw [ef.p _ l1 (q _ (by decide))]; exact p2
  · rw [ef.p _ l1 (q _ (by decide))]; exact p3
  · rw [ef.p _ l1 (q _ (by decide))]; exact p4
theorem Buf.fr {S : SS} {h' : Hp} (s : Buf h f n b) (l : gL h 101 = true) (ef : EF S h h') (c : (S.2.2.1.all fun f => !saF f 101) = true) : Buf h' f n b :=
  ⟨s.1, fun i hi => ⟨(ef.a _ l c).trans (s.2 i hi).1, (s.2 i hi).2⟩⟩
theorem next_in (p : SrcP h sb) (B : Buf h f n b) (A : SrcA h f a e o) (ha : a < e) (he : e ≤ n) : fX4_next F d 300 h = some (zI (b a), sI h 401 300 (zI ↑(f + (a + 1)))) := by
  obtain ⟨hn, B⟩ := B
  unfold fX4_next
  rw [A.1, A.2.1, if_pos ((zn_lt (by omega) (by omega)).mpr (by omega)), zn_succ, bn_d, gP_sI, p.2.1, nn_s, gI_sI, if_pos ⟨rfl, rfl⟩, zn_pred (by omega)]
  have e1 : f + a + 1 - 1 = f + a := by omega
  rw [e1, zn_cl (by omega), show nd_Ln 101 = 120 from rfl, zn_inb (by omega) (by omega), ck_t, gA_sI, (B a (by omega)).1]
  rfl
theorem next_out (A : SrcA h f a e o) (ha : e ≤ a) (hb : f + a < 100000) : fX4_next F d 300 h = some (-1, h) := by
  unfold fX4_next
  rw [A.1, A.2.1, if_neg (fun q => by rw [zn_lt (by omega) (by omega)] at q; omega)]
theorem SrcA.st (A : SrcA h f a e o) (x : Nat) : SrcA (sI h 401 300 (zI ↑(f + x))) f x e o := by
  refine ⟨?_, ?_, ?_⟩
  · rw [gI_sI, if_pos ⟨rfl, rfl⟩]
  · rw [gI_sI, if_neg (by decide)]; exact A.2.1
  · rw [gI_sI, if_neg (by decide)]; exact A.2.2
theorem SrcP.st (s : SrcP h sb) {g x : Nat} {v : Int32} : SrcP (sI h g x v) sb := s
theorem Buf.st (s : Buf h f n b) {g x : Nat} {v : Int32} : Buf (sI h g x v) f n b := s
theorem sI_sI {g x : Nat} {v w : Int32} : sI (sI h g x v) g x w = sI h g x w := by
  unfold sI
  congr 1
  congr 1
  funext i j
  simp only [u2]
  split <;> rfl
/-- the end of a length -/
theorem len_62 (A : SrcA h f a e o) (hae : a ≤ e) (he : f + e ≤ 120) (x : Int32) (hx : x ≤ 130) (m : Nat) (hm : m < 100000) :
    fX4_length_62 F d 300 x (zI m) h = some (if a + m ≤ e then zI m else -1, h) := by
  unfold fX4_length_62
  rw [if_neg (fun q => Int32.lt_irrefl (Int32.lt_of_lt_of_le q hx)), if_neg (zn_nn m (by omega)), A.1, A.2.1,
    if_neg (fun q => by rw [zn_lt (by omega) (by omega)] at q; omega), zn_sub (by omega)]
  by_cases c : a + m ≤ e
  · rw [if_pos ((zn_le (by omega) (by omega)).mpr (by omega)), if_pos c]
  · rw [if_neg (fun q => by rw [zn_le (by omega) (by omega)] at q; omega), if_neg c]
theorem len_62n (x : Int32) (y : Int32) (hy : y < 0) : ∃ h', fX4_length_62 F d 300 x y h = some (-1, h') := by
  unfold fX4_length_62
  by_cases c : 130 < x
  · rw [if_pos c]; exact ⟨_, rfl⟩
  · rw [if_neg c, if_pos hy]; exact ⟨_, rfl⟩
theorem len_ok (p : SrcP h sb) (B : Buf h f n b) (A : SrcA h f a e o) (hae : a ≤ e) (he : e ≤ n) (made : Bool) :
    ∃ v h', fX4_length F d 300 (b2i made) h = some (v, h') ∧ (match lnR b a e made with
      | none => v = -1
      | some (none, x) => v = -2 ∧ h' = sI h 401 300 (zI ↑(f + x))
      | some (some m, x) => v = zI m ∧ h' = sI h 401 300 (zI ↑(f + x))) := by
  have hn := B.1
  by_cases c : a < e
  · have hba := (B.2 a (by omega)).2
    unfold fX4_length lnR
    rw [next_in p B A c he, ca_s, if_pos c]
    have A1 := A.st (a + 1)
    have B1 : Buf (sI h 401 300 (zI ↑(f + (a + 1)))) f n b := B
    have p1 : SrcP (sI h 401 300 (zI ↑(f + (a + 1)))) sb := p
    by_cases c1 : b a = 128
    · rw [if_pos (by rw [c1]; rfl), if_pos c1]
      cases made with
      | true => rw [if_neg (by decide), if_pos rfl]; exact ⟨_, _, rfl, rfl, rfl⟩
      | false => rw [if_pos (by decide), if_neg (by decide)]; exact ⟨_, _, rfl, rfl⟩
    · have k1 : ¬ zI ↑(b a) = 128 := fun q => c1 ((zn_eq (b := 128) (by omega) (by omega)).mp q)
      rw [if_neg k1, if_neg c1]
      by_cases c2 : b a = 129
      · rw [if_pos (by rw [c2]; rfl), if_pos c2]
        by_cases c3 : a + 1 < e
        · have hb1 := (B.2 (a + 1) (by omega)).2
          rw [next_in p1 B1 A1 c3 he, ca_s, if_pos c3, sI_sI]
          unfold fX4_length_37
          rw [if_neg (by rw [c2]; decide), len_62 (A.st (a + 1 + 1)) (by omega) (by omega) _ (by rw [c2]; decide) _ (by omega)]
          unfold lnF
          by_cases c4 : a + 2 + b (a + 1) ≤ e
          · rw [if_pos (by omega), if_pos c4]; exact ⟨_, _, rfl, rfl, rfl⟩
          · rw [if_neg (by omega), if_neg c4]; exact ⟨_, _, rfl, rfl⟩
        · rw [next_out A1 (by omega) (by omega), ca_s, if_neg c3]
          unfold fX4_length_37
          rw [if_neg (by rw [c2]; decide)]
          obtain ⟨h', q⟩ := len_62n (F := F) (d := d) (h := sI h 401 300 (zI ↑(f + (a + 1)))) (zI ↑(b a)) (-1) (by decide)
          exact ⟨_, _, q, rfl⟩
      · have k2 : ¬ zI ↑(b a) = 129 := fun q => c2 ((zn_eq (b := 129) (by omega) (by omega)).mp q)
        rw [if_neg k2, if_neg c2]
        unfold fX4_length_37
        by_cases c3 : b a = 130
        · rw [if_pos (by rw [c3]; rfl), if_pos c3]
          by_cases c4 : a + 1 < e
          · have hb1 := (B.2 (a + 1) (by omega)).2
            rw [next_in p1 B1 A1 c4 he, ca_s, sI_sI]
            have A2 := A.st (a + 1 + 1)
            by_cases c5 : a + 2 < e
            · have hb2 := (B.2 (a + 2) (by omega)).2
              rw [next_in (h := sI h 401 300 (zI ↑(f + (a + 1 + 1)))) p B A2 (by omega) he, ca_s, sI_sI, if_pos c5, bn_d]
              rw [show (256 : Int32) * zI ↑(b (a + 1)) + zI ↑(b (a + 1 + 1)) = zI ↑(256 * b (a + 1) + b (a + 2)) from by
                rw [show (256 : Int32) = zI 256 from rfl, zI_mul, zI_add]; congr 1]
              rw [len_62 (A.st (a + 1 + 1 + 1)) (by omega) (by omega) _ (by rw [c3]; decide) _ (by omega)]
              unfold lnF
              by_cases c6 : a + 3 + (256 * b (a + 1) + b (a + 2)) ≤ e
              · rw [if_pos (by omega), if_pos c6]; exact ⟨_, _, rfl, rfl, rfl⟩
              · rw [if_neg (by omega), if_neg c6]; exact ⟨_, _, rfl, rfl⟩
            · rw [next_out A2 (by omega) (by omega), ca_s, if_neg c5, bn_d]
              by_cases c6 : b (a + 1) = 0
              · obtain ⟨h', q⟩ := len_62n (F := F) (d := d) (h := sI h 401 300 (zI ↑(f + (a + 1 + 1)))) (zI ↑(b a)) (256 * zI ↑(b (a + 1)) + -1) (by rw [c6]; decide)
                exact ⟨_, _, q, rfl⟩
              · rw [show (256 : Int32) * zI ↑(b (a + 1)) + -1 = zI ↑(256 * b (a + 1) - 1) from by
                  rw [show (256 : Int32) = zI 256 from rfl, show (-1 : Int32) = zI (-1) from rfl, zI_mul, zI_add]; congr 1; omega]
                rw [len_62 A2 (by omega) (by omega) _ (by rw [c3]; decide) _ (by omega), if_neg (by omega)]
                exact ⟨_, _, rfl, rfl⟩
          · rw [next_out A1 (by omega) (by omega), ca_s, next_out A1 (by omega) (by omega), ca_s, if_neg (by omega), bn_d]
            obtain ⟨h', q⟩ := len_62n (F := F) (d := d) (h := sI h 401 300 (zI ↑(f + (a + 1)))) (zI ↑(b a)) (256 * -1 + -1) (by decide)
            exact ⟨_, _, q, rfl⟩
        · have k3 : ¬ zI ↑(b a) = 130 := fun q => c3 ((zn_eq (b := 130) (by omega) (by omega)).mp q)
          rw [if_neg k3, if_neg c3]
          by_cases c4 : 130 < b a
          · rw [if_pos c4]
            unfold fX4_length_62
            rw [if_pos (show (130 : Int32) < zI ↑(b a) from (zn_lt (a := 130) (by omega) (by omega)).mpr c4)]
            exact ⟨_, _, rfl, rfl⟩
          · rw [if_neg c4, len_62 A1 (by omega) (by omega) _ ((zn_le (b := 130) (by omega) (by omega)).mpr (by omega)) _ (by omega)]
            unfold lnF
            by_cases c6 : a + 1 + b a ≤ e
            · rw [if_pos c6, if_pos c6]; exact ⟨_, _, rfl, rfl, rfl⟩
            · rw [if_neg c6, if_neg c6]; exact ⟨_, _, rfl, rfl⟩
  · unfold fX4_length lnR
    rw [next_out A (by omega) (by omega), ca_s, if_neg c, if_neg (by decide), if_neg (by decide)]
    unfold fX4_length_37
    rw [if_neg (by decide)]
    obtain ⟨h', q⟩ := len_62n (F := F) (d := d) (h := h) (-1) (-1) (by decide)
    exact ⟨_, _, q, rfl⟩
end Src
