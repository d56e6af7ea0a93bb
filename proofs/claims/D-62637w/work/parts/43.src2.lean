/-! THE SOURCE: entering and leaving -/
set_option maxRecDepth 100000
/-- nothing but the source's places and its lengths and ends has changed -/
def SO (h h' : Hp) : Prop := gP h' = gP h ∧ gL h' = gL h ∧ gR h' = gR h ∧ (∀ g x, x ≠ 300 → gI h' g x = gI h g x) ∧ ∀ y i, y ≠ 301 → y ≠ 302 → gA h' y i = gA h y i
section Src2
variable {h : Hp} {sb f n a e o F d : Nat} {b : Nat → Nat}
theorem ent_17 (p : SrcP h sb) (A : SrcA h f a e o) (ho : o < 12) (v : Int32) (hv : ¬ v = -1) :
    fX4_enter_17 F d 300 v h = some (1, sI (sI (sA (sA h 301 o v) 302 o (zI ↑(f + e))) 407 300 (zI ↑(o + 1))) 402 300 (if v = -2 then zI ↑(f + e) else zI ↑(f + a) + v)) := by
  unfold fX4_enter_17
  simp only [if_neg hv, p.2.2.2.1, p.2.2.2.2, nn_s, bn_d, gI_sA, gP_sA, gI_sI, A.1, A.2.1, A.2.2, zn_cl (show o < 2147483648 by omega), show nd_Ln 301 = 12 from rfl, show nd_Ln 302 = 12 from rfl, zn_inb ho (show 12 < 2147483648 by omega), ck_t, zn_succ]
  by_cases c : v = -2
  · rw [if_pos c, if_pos c]; rfl
  · rw [if_neg c, if_neg c]; rfl
/-- entering: the place, the end, what is kept -/
theorem ent_ok (p : SrcP h sb) (B : Buf h f n b) (A : SrcA h f a e o) (hae : a ≤ e) (he : e ≤ n) (ho : o < 12) (x : Nat) (hx : x < 256) :
    ∃ v h', fX4_enter F d 300 (zI x) h = some (v, h') ∧ (match ent b x a e with
      | none => v = 0
      | some (a1, e1, l) => v = 1 ∧ SrcA h' f a1 e1 (o + 1) ∧ (gA h' 301 o = -2 ↔ l = true) ∧ gA h' 302 o = zI ↑(f + e) ∧ (∀ i, i < o → gA h' 301 i = gA h 301 i ∧ gA h' 302 i = gA h 302 i) ∧ a < a1 ∧ a1 ≤ e1 ∧ e1 ≤ e ∧ SO h h') := by
  have hn := B.1
  unfold fX4_enter ent
  by_cases c : a < e
  · have hba := (B.2 a (by omega)).2
    rw [next_in p B A c he, ca_s]
    by_cases c1 : b a = x
    · rw [if_pos (show zI ↑(b a) = zI ↑x by rw [c1]), if_pos ⟨c, c1⟩]
      obtain ⟨v, h', q, r⟩ := len_ok (F := F) (d := d) (h := sI h 401 300 (zI ↑(f + (a + 1)))) p B (A.st (a + 1)) (by omega) he true
      rw [show (1 : Int32) = b2i true from rfl, q, ca_s]
      cases hl : lnR b (a + 1) e true with
      | none =>
        rw [hl] at r
        unfold fX4_enter_17
        rw [r, if_pos rfl]
        exact ⟨_, _, rfl, rfl⟩
      | some w =>
        obtain ⟨w1, w2⟩ := w
        have hw : a + 1 ≤ w2 ∧ w2 + w1.getD 0 ≤ e := by
          unfold lnR lnF at hl
          (repeat' split at hl) <;> first | (cases hl; done) | (cases hl; simp only [Option.getD]; omega)
        cases w1 with
        | none =>
          rw [hl] at r
          obtain ⟨r1, r2⟩ := r
          rw [r2, sI_sI, r1, ent_17 (h := sI h 401 300 (zI ↑(f + w2))) p (A.st w2) ho (-2) (by decide)]
          simp only [Option.getD] at hw
          refine ⟨_, _, rfl, rfl, ⟨?_, ?_, ?_⟩, ?_, ?_, ?_, by omega, by omega, by omega, rfl, rfl, rfl, fun g x hx => by simp only [gI_sI, gI_sA, hx, and_false, if_false], fun y i h1 h2 => by simp only [gA_sI, gA_sA, h1, h2, false_and, if_false]⟩
          · simp only [gI_sI, gI_sP, gI_sA, gI_sR, gI_sJ, gI_nw, gI_nx, gP_sI, gP_sP, gP_sA, gP_sR, gP_sJ, gP_nw, gP_nx, gA_sI, gA_sP, gA_sA, gA_sR, gA_sJ, gA_nw, gA_nx, gR_sI, gR_sP, gR_sA, gR_sR, gR_sJ, gR_nw, gR_nx, and_self, and_true, true_and, and_false, false_and, if_true, if_false, ↓reduceIte, Nat.reduceEqDiff]
          · simp only [gI_sI, gI_sP, gI_sA, gI_sR, gI_sJ, gI_nw, gI_nx, gP_sI, gP_sP, gP_sA, gP_sR, gP_sJ, gP_nw, gP_nx, gA_sI, gA_sP, gA_sA, gA_sR, gA_sJ, gA_nw, gA_nx, gR_sI, gR_sP, gR_sA, gR_sR, gR_sJ, gR_nw, gR_nx, and_self, and_true, true_and, and_false, false_and, if_true, if_false, ↓reduceIte, Nat.reduceEqDiff]
          · simp only [gI_sI, gI_sP, gI_sA, gI_sR, gI_sJ, gI_nw, gI_nx, gP_sI, gP_sP, gP_sA, gP_sR, gP_sJ, gP_nw, gP_nx, gA_sI, gA_sP, gA_sA, gA_sR, gA_sJ, gA_nw, gA_nx, gR_sI, gR_sP, gR_sA, gR_sR, gR_sJ, gR_nw, gR_nx, and_self, and_true, true_and, and_false, false_and, if_true, if_false, ↓reduceIte, Nat.reduceEqDiff]
          · simp only [gI_sI, gI_sP, gI_sA, gI_sR, gI_sJ, gI_nw, gI_nx, gP_sI, gP_sP, gP_sA, gP_sR, gP_sJ, gP_nw, gP_nx, gA_sI, gA_sP, gA_sA, gA_sR, gA_sJ, gA_nw, gA_nx, gR_sI, gR_sP, gR_sA, gR_sR, gR_sJ, gR_nw, gR_nx, and_self, and_true, true_and, and_false, false_and, if_true, if_false, ↓reduceIte, Nat.reduceEqDiff]
          · simp only [gI_sI, gI_sP, gI_sA, gI_sR, gI_sJ, gI_nw, gI_nx, gP_sI, gP_sP, gP_sA, gP_sR, gP_sJ, gP_nw, gP_nx, gA_sI, gA_sP, gA_sA, gA_sR, gA_sJ, gA_nw, gA_nx, gR_sI, gR_sP, gR_sA, gR_sR, gR_sJ, gR_nw, gR_nx, and_self, and_true, true_and, and_false, false_and, if_true, if_false, ↓reduceIte, Nat.reduceEqDiff]
          · intro i hi
            simp only [gI_sI, gI_sP, gI_sA, gI_sR, gI_sJ, gI_nw, gI_nx, gP_sI, gP_sP, gP_sA, gP_sR, gP_sJ, gP_nw, gP_nx, gA_sI, gA_sP, gA_sA, gA_sR, gA_sJ, gA_nw, gA_nx, gR_sI, gR_sP, gR_sA, gR_sR, gR_sJ, gR_nw, gR_nx]
            constructor
            · rw [if_neg (by omega), if_neg (by omega)]
            · rw [if_neg (by omega), if_neg (by omega)]
        | some m =>
          rw [hl] at r
          obtain ⟨r1, r2⟩ := r
          simp only [Option.getD] at hw
          have m1 : ¬ zI (m : Int) = -1 := zn_neg (z := -1) (by omega) (by omega) (by decide) (by decide)
          have m2 : ¬ zI (m : Int) = -2 := zn_neg (z := -2) (by omega) (by omega) (by decide) (by decide)
          rw [r2, sI_sI, r1, ent_17 (h := sI h 401 300 (zI ↑(f + w2))) p (A.st w2) ho (zI m) m1]
          refine ⟨_, _, rfl, rfl, ⟨?_, ?_, ?_⟩, ?_, ?_, ?_, by omega, by omega, by omega, rfl, rfl, rfl, fun g x hx => by simp only [gI_sI, gI_sA, hx, and_false, if_false], fun y i h1 h2 => by simp only [gA_sI, gA_sA, h1, h2, false_and, if_false]⟩
          · simp only [gI_sI, gI_sP, gI_sA, gI_sR, gI_sJ, gI_nw, gI_nx, gP_sI, gP_sP, gP_sA, gP_sR, gP_sJ, gP_nw, gP_nx, gA_sI, gA_sP, gA_sA, gA_sR, gA_sJ, gA_nw, gA_nx, gR_sI, gR_sP, gR_sA, gR_sR, gR_sJ, gR_nw, gR_nx, and_self, and_true, true_and, and_false, false_and, if_true, if_false, ↓reduceIte, Nat.reduceEqDiff]
          · simp only [gI_sI, gI_sP, gI_sA, gI_sR, gI_sJ, gI_nw, gI_nx, gP_sI, gP_sP, gP_sA, gP_sR, gP_sJ, gP_nw, gP_nx, gA_sI, gA_sP, gA_sA, gA_sR, gA_sJ, gA_nw, gA_nx, gR_sI, gR_sP, gR_sA, gR_sR, gR_sJ, gR_nw, gR_nx, and_self, and_true, true_and, and_false, false_and, if_true, if_false, ↓reduceIte, Nat.reduceEqDiff]
            rw [if_neg m2, zn_add, Nat.add_assoc]
          · simp only [gI_sI, gI_sP, gI_sA, gI_sR, gI_sJ, gI_nw, gI_nx, gP_sI, gP_sP, gP_sA, gP_sR, gP_sJ, gP_nw, gP_nx, gA_sI, gA_sP, gA_sA, gA_sR, gA_sJ, gA_nw, gA_nx, gR_sI, gR_sP, gR_sA, gR_sR, gR_sJ, gR_nw, gR_nx, and_self, and_true, true_and, and_false, false_and, if_true, if_false, ↓reduceIte, Nat.reduceEqDiff]
          · simp only [gI_sI, gI_sP, gI_sA, gI_sR, gI_sJ, gI_nw, gI_nx, gP_sI, gP_sP, gP_sA, gP_sR, gP_sJ, gP_nw, gP_nx, gA_sI, gA_sP, gA_sA, gA_sR, gA_sJ, gA_nw, gA_nx, gR_sI, gR_sP, gR_sA, gR_sR, gR_sJ, gR_nw, gR_nx, and_self, and_true, true_and, and_false, false_and, if_true, if_false, ↓reduceIte, Nat.reduceEqDiff]
            exact ⟨fun q => absurd q m2, fun q => by cases q⟩
          · simp only [gI_sI, gI_sP, gI_sA, gI_sR, gI_sJ, gI_nw, gI_nx, gP_sI, gP_sP, gP_sA, gP_sR, gP_sJ, gP_nw, gP_nx, gA_sI, gA_sP, gA_sA, gA_sR, gA_sJ, gA_nw, gA_nx, gR_sI, gR_sP, gR_sA, gR_sR, gR_sJ, gR_nw, gR_nx, and_self, and_true, true_and, and_false, false_and, if_true, if_false, ↓reduceIte, Nat.reduceEqDiff]
          · intro i hi
            simp only [gI_sI, gI_sP, gI_sA, gI_sR, gI_sJ, gI_nw, gI_nx, gP_sI, gP_sP, gP_sA, gP_sR, gP_sJ, gP_nw, gP_nx, gA_sI, gA_sP, gA_sA, gA_sR, gA_sJ, gA_nw, gA_nx, gR_sI, gR_sP, gR_sA, gR_sR, gR_sJ, gR_nw, gR_nx]
            constructor
            · rw [if_neg (by omega), if_neg (by omega)]
            · rw [if_neg (by omega), if_neg (by omega)]
    · rw [if_neg (fun q => c1 ((zn_eq (by omega) (by omega)).mp q)), if_neg (fun q => c1 q.2)]
      unfold fX4_enter_17
      rw [if_pos rfl]
      exact ⟨_, _, rfl, rfl⟩
  · rw [next_out A (by omega) (by omega), ca_s]
    have k1 : ¬ (-1 : Int32) = zI ↑x := fun q => zn_neg (z := -1) (by omega) (by omega) (by decide) (by decide) q.symm
    rw [if_neg k1, if_neg (fun q => c q.1)]
    unfold fX4_enter_17
    rw [if_pos rfl]
    exact ⟨_, _, rfl, rfl⟩
/-- whether the content ends: of what is open only its first byte is looked at -/
theorem end_ok (p : SrcP h sb) (B : Buf h f n b) (A : SrcA h f a e (o + 1)) (hae : a ≤ e) (he : e ≤ n) (ho : o < 12) (l : Bool) (hl : gA h 301 o = -2 ↔ l = true) :
    fX4_isAtEnd F d 300 h = some (b2i (if l then decide (a < e ∧ b a = 0) else decide (a = e)), h) := by
  have hn := B.1
  unfold fX4_isAtEnd
  have k : zI ↑(o + 1) - 1 = zI ↑o := zn_pred (by omega)
  simp only [p.2.1, p.2.2.2.1, nn_s, A.1, A.2.1, A.2.2, k, zn_cl (show o < 2147483648 by omega), show nd_Ln 301 = 12 from rfl, show nd_Ln 101 = 120 from rfl, zn_inb ho (show 12 < 2147483648 by omega), ck_t]
  cases l with
  | true =>
    rw [if_pos (hl.mpr rfl), if_pos rfl]
    by_cases c : a < e
    · have hba := (B.2 a (by omega)).2
      rw [if_neg (fun q => by rw [zn_le (by omega) (by omega)] at q; omega), zn_inb (by omega) (by omega), ck_t, zn_cl (by omega), (B.2 a (by omega)).1]
      by_cases c1 : b a = 0
      · rw [if_pos (by rw [c1]; rfl), decide_eq_true ⟨c, c1⟩]; rfl
      · rw [if_neg (zn_ne 0 (v := 0) c1 rfl (by omega) (by omega)), decide_eq_false (fun q => c1 q.2)]; rfl
    · rw [if_pos ((zn_le (by omega) (by omega)).mpr (by omega)), decide_eq_false (fun q => c q.1)]; rfl
  | false =>
    rw [if_neg (fun q => by cases hl.mp q), if_neg (show ¬ (false = true) by decide)]
    by_cases c : a = e
    · rw [if_pos (show zI ↑(f + a) = zI ↑(f + e) by rw [c]), decide_eq_true c]; rfl
    · rw [if_neg (show ¬ zI ↑(f + a) = zI ↑(f + e) from fun q => by rw [zn_eq (by omega) (by omega)] at q; omega), decide_eq_false c]; rfl
theorem lea_62 (p : SrcP h sb) {o : Nat} (A : gI h 407 300 = zI o) (ho : o < 12) {e0 : Nat} (he0 : gA h 302 o = zI ↑(f + e0)) (v : Int32) (hv : isB v = true) :
    fX4_leave_62 F d 300 v h = some (v, sI h 402 300 (zI ↑(f + e0))) := by
  unfold fX4_leave_62
  simp only [p.2.2.2.2, nn_s, A, zn_cl (show o < 2147483648 by omega), show nd_Ln 302 = 12 from rfl, zn_inb ho (show 12 < 2147483648 by omega), ck_t, he0, bn_d, hv]
/-- leaving -/
theorem lea_ok (p : SrcP h sb) (B : Buf h f n b) (A : SrcA h f a e (o + 1)) (hae : a ≤ e) (he : e ≤ n) (ho : o < 12) (l : Bool) (hl : gA h 301 o = -2 ↔ l = true) {e0 : Nat} (he0 : gA h 302 o = zI ↑(f + e0)) :
    ∃ v h', fX4_leave F d 300 h = some (v, h') ∧ (match lea b a e l with
      | none => v = 0
      | some a3 => v = 1 ∧ SrcA h' f a3 e0 o ∧ gA h' = gA h ∧ a ≤ a3 ∧ a3 ≤ e ∧ SO h h') := by
  have hn := B.1
  unfold fX4_leave lea isE
  have k : zI ↑(o + 1) - 1 = zI ↑o := zn_pred (by omega)
  simp only [bn_d, gP_sI, p.2.2.2.1, nn_s, A.2.2, k, gI_sI, gA_sI, and_self, and_true, if_true, ↓reduceIte, Nat.reduceEqDiff, zn_cl (show o < 2147483648 by omega), show nd_Ln 301 = 12 from rfl, zn_inb ho (show 12 < 2147483648 by omega), ck_t]
  have A1 : SrcA (sI h 407 300 (zI ↑o)) f a e o := ⟨by rw [gI_sI, if_neg (by decide)]; exact A.1, by rw [gI_sI, if_neg (by decide)]; exact A.2.1, by rw [gI_sI, if_pos ⟨rfl, rfl⟩]⟩
  cases l with
  | true =>
    rw [if_pos (hl.mpr rfl), if_pos rfl]
    by_cases c : a < e
    · have hba := (B.2 a (by omega)).2
      rw [next_in (h := sI h 407 300 (zI ↑o)) p B A1 c he, ca_s]
      have A2 := A1.st (a + 1)
      by_cases c1 : b a = 0
      · rw [if_pos (show zI ↑(b a) = 0 by rw [c1]; rfl)]
        by_cases c2 : a + 1 < e
        · have hb1 := (B.2 (a + 1) (by omega)).2
          rw [next_in (h := sI (sI h 407 300 (zI ↑o)) 401 300 (zI ↑(f + (a + 1)))) p B A2 c2 he, ca_s, sI_sI]
          by_cases c3 : b (a + 1) = 0
          · rw [if_pos (show zI ↑(b (a + 1)) = 0 by rw [c3]; rfl), lea_62 (h := sI (sI h 407 300 (zI ↑o)) 401 300 (zI ↑(f + (a + 1 + 1)))) p (A1.st _).2.2 ho he0 1 (by decide), if_pos (decide_eq_true ⟨c2, c1, c3⟩)]
            exact ⟨_, _, rfl, rfl, ⟨by simp only [gI_sI, gI_sP, gI_sA, gI_sR, gI_sJ, gI_nw, gI_nx, gP_sI, gP_sP, gP_sA, gP_sR, gP_sJ, gP_nw, gP_nx, gA_sI, gA_sP, gA_sA, gA_sR, gA_sJ, gA_nw, gA_nx, gR_sI, gR_sP, gR_sA, gR_sR, gR_sJ, gR_nw, gR_nx, and_self, and_true, true_and, and_false, false_and, if_true, if_false, ↓reduceIte, Nat.reduceEqDiff], by simp only [gI_sI, gI_sP, gI_sA, gI_sR, gI_sJ, gI_nw, gI_nx, gP_sI, gP_sP, gP_sA, gP_sR, gP_sJ, gP_nw, gP_nx, gA_sI, gA_sP, gA_sA, gA_sR, gA_sJ, gA_nw, gA_nx, gR_sI, gR_sP, gR_sA, gR_sR, gR_sJ, gR_nw, gR_nx, and_self, and_true, true_and, and_false, false_and, if_true, if_false, ↓reduceIte, Nat.reduceEqDiff], by simp only [gI_sI, gI_sP, gI_sA, gI_sR, gI_sJ, gI_nw, gI_nx, gP_sI, gP_sP, gP_sA, gP_sR, gP_sJ, gP_nw, gP_nx, gA_sI, gA_sP, gA_sA, gA_sR, gA_sJ, gA_nw, gA_nx, gR_sI, gR_sP, gR_sA, gR_sR, gR_sJ, gR_nw, gR_nx, and_self, and_true, true_and, and_false, false_and, if_true, if_false, ↓reduceIte, Nat.reduceEqDiff]⟩, rfl, by simp, by simp; omega, rfl, rfl, rfl, fun g x hx => by simp only [gI_sI, gI_sA, hx, and_false, if_false], fun y i h1 h2 => rfl⟩
          · rw [if_neg (zn_ne 0 (v := 0) c3 rfl (by omega) (by omega))]
            unfold fX4_leave_42
            rw [lea_62 (h := sI (sI h 407 300 (zI ↑o)) 401 300 (zI ↑(f + (a + 1 + 1)))) p (A1.st _).2.2 ho he0 0 (by decide), if_neg (fun q => c3 (of_decide_eq_true q).2.2)]
            exact ⟨_, _, rfl, rfl⟩
        · rw [next_out A2 (by omega) (by omega), ca_s, if_neg (by decide)]
          unfold fX4_leave_42
          rw [lea_62 (h := sI (sI h 407 300 (zI ↑o)) 401 300 (zI ↑(f + (a + 1)))) p A2.2.2 ho he0 0 (by decide), if_neg (fun q => c2 (of_decide_eq_true q).1)]
          exact ⟨_, _, rfl, rfl⟩
      · rw [if_neg (zn_ne 0 (v := 0) c1 rfl (by omega) (by omega))]
        unfold fX4_leave_42
        rw [lea_62 (h := sI (sI h 407 300 (zI ↑o)) 401 300 (zI ↑(f + (a + 1)))) p A2.2.2 ho he0 0 (by decide), if_neg (fun q => c1 (of_decide_eq_true q).2.1)]
        exact ⟨_, _, rfl, rfl⟩
    · rw [next_out A1 (by omega) (by omega), ca_s, if_neg (by decide)]
      unfold fX4_leave_42
      rw [lea_62 (h := sI h 407 300 (zI ↑o)) p A1.2.2 ho he0 0 (by decide), if_neg (fun q => by have := (of_decide_eq_true q).1; omega)]
      exact ⟨_, _, rfl, rfl⟩
  | false =>
    rw [if_neg (fun q => by cases hl.mp q), if_neg (show ¬ (false = true) by decide)]
    rw [A.1, A.2.1]
    by_cases c : a = e
    · rw [if_pos (show zI ↑(f + a) = zI ↑(f + e) by rw [c]), lea_62 (h := sI h 407 300 (zI ↑o)) p A1.2.2 ho he0 1 (by decide), if_pos (decide_eq_true c)]
      exact ⟨_, _, rfl, rfl, ⟨by simp only [gI_sI, gI_sP, gI_sA, gI_sR, gI_sJ, gI_nw, gI_nx, gP_sI, gP_sP, gP_sA, gP_sR, gP_sJ, gP_nw, gP_nx, gA_sI, gA_sP, gA_sA, gA_sR, gA_sJ, gA_nw, gA_nx, gR_sI, gR_sP, gR_sA, gR_sR, gR_sJ, gR_nw, gR_nx, and_self, and_true, true_and, and_false, false_and, if_true, if_false, ↓reduceIte, Nat.reduceEqDiff]; exact A.1, by simp only [gI_sI, gI_sP, gI_sA, gI_sR, gI_sJ, gI_nw, gI_nx, gP_sI, gP_sP, gP_sA, gP_sR, gP_sJ, gP_nw, gP_nx, gA_sI, gA_sP, gA_sA, gA_sR, gA_sJ, gA_nw, gA_nx, gR_sI, gR_sP, gR_sA, gR_sR, gR_sJ, gR_nw, gR_nx, and_self, and_true, true_and, and_false, false_and, if_true, if_false, ↓reduceIte, Nat.reduceEqDiff], by simp only [gI_sI, gI_sP, gI_sA, gI_sR, gI_sJ, gI_nw, gI_nx, gP_sI, gP_sP, gP_sA, gP_sR, gP_sJ, gP_nw, gP_nx, gA_sI, gA_sP, gA_sA, gA_sR, gA_sJ, gA_nw, gA_nx, gR_sI, gR_sP, gR_sA, gR_sR, gR_sJ, gR_nw, gR_nx, and_self, and_true, true_and, and_false, false_and, if_true, if_false, ↓reduceIte, Nat.reduceEqDiff]⟩, rfl, by simp, by simp; omega, rfl, rfl, rfl, fun g x hx => by simp only [gI_sI, gI_sA, hx, and_false, if_false], fun y i h1 h2 => rfl⟩
    · rw [if_neg (show ¬ zI ↑(f + a) = zI ↑(f + e) from fun q => by rw [zn_eq (by omega) (by omega)] at q; omega), lea_62 (h := sI h 407 300 (zI ↑o)) p A1.2.2 ho he0 0 (by decide), if_neg (fun q => c (of_decide_eq_true q))]
      exact ⟨_, _, rfl, rfl⟩
end Src2
