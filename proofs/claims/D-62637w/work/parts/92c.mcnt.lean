/-! THE MODEL READS BITS (3): how many there are -/
set_option maxRecDepth 100000
section Md
variable {F dd n p N q : Nat} {b : Nat → Nat} {h : Hp} {τ : Tb}
/-- what is known behind reading a number -/
def PN (h' : Hp) (x : Int32) (r : Option (Int32 × Nat)) : Prop := match r with
  | none => Bad h'
  | some (v, p1) => x = v ∧ PG h' p1
theorem mcnt_ok (S : MSrc h b n) (T : MT h τ N) (hq : q < N) (ok : okS τ q) (G : PG h p) (hp : p ≤ 8 * n) (hF : 1000 ≤ F) :
    ∃ x h', fX6_counted F dd 3000 (zI ↑q) h = some (x, h') ∧ PQ h h' ∧ PN h' x (cnt b (8 * n) τ q p) := by
  have hN := T.1
  have M := S.1
  obtain ⟨⟨-, -, -, -, a5⟩, -, a7, -, -⟩ := T.2 q hq
  unfold fX6_counted cnt
  cases hB : tB τ q with
  | false =>
    rw [hB] at a5
    obtain ⟨e1, e2, e3⟩ := malg_ok (F := F) (dd := dd) S G hp
    obtain ⟨x, h', e4, q4, r4⟩ := some_ok (F := F) (dd := dd) (k := 8) (by omega) ((PQ.s7 h _).ms S) e2 e3 hF
    rw [if_neg (show ¬ (false = true) by decide)]
    have fin : (∃ y h2, (if x ≤ 127 then some (x, h') else some (x, sI h' 649 3000 0)) = some (y, h2) ∧ PQ h h2 ∧ PN h2 y (match tk b (8 * n) (al8 p) 8 with | none => none | some (v, p1) => if v ≤ 127 then some (Int32.ofNat v, p1) else none)) := by
      unfold tk at r4 ⊢
      by_cases c : al8 p + 8 ≤ 8 * n
      · rw [if_pos c] at r4
        rw [if_pos c]
        obtain ⟨r5, r6⟩ := r4
        have lt := tkv_lt b (al8 p) 8
        by_cases c2 : tkv b (al8 p) 8 ≤ 127
        · refine ⟨x, h', ?_, (PQ.s7 h _).tr q4, ?_⟩
          · rw [if_pos (show x ≤ 127 by rw [r5, show (127 : Int32) = zI ↑(127 : Nat) from rfl, zI_le (by omega) (by omega) (by omega) (by omega)]; omega)]
          · show PN h' x (if tkv b (al8 p) 8 ≤ 127 then _ else _)
            rw [if_pos c2]; exact ⟨by rw [r5, zI_nat], r6⟩
        · refine ⟨x, sI h' 649 3000 0, ?_, ((PQ.s7 h _).tr q4).tr (PQ.s9 _ _), ?_⟩
          · rw [if_neg (show ¬ x ≤ 127 by rw [r5, show (127 : Int32) = zI ↑(127 : Nat) from rfl, zI_le (by omega) (by omega) (by omega) (by omega)]; omega)]
          · show PN _ x (if tkv b (al8 p) 8 ≤ 127 then _ else _)
            rw [if_neg c2]; show gI _ 649 3000 = _; rw [gI_sI, if_pos ⟨rfl, rfl⟩]; rfl
      · rw [if_neg c] at r4
        rw [if_neg c]
        by_cases c2 : x ≤ 127
        · exact ⟨x, h', by rw [if_pos c2], (PQ.s7 h _).tr q4, r4⟩
        · exact ⟨x, sI h' 649 3000 0, by rw [if_neg c2], ((PQ.s7 h _).tr q4).tr (PQ.s9 _ _), by show gI _ 649 3000 = _; rw [gI_sI, if_pos ⟨rfl, rfl⟩]; rfl⟩
    have a5 : gA h 3011 q = 0 := a5
    obtain ⟨y, h2, f1, f2, f3⟩ := fin
    refine ⟨y, h2, ?_, f2, f3⟩
    rw [M.2, mp618, nn_s, ln3011, zn_inb (by omega) (by omega), ck_t, zn_cl (by omega), if_pos a5, e1, cv_s, show (8 : Int32) = zI ↑(8 : Nat) from rfl, e4, ca_s]
    exact f1
  | true =>
    rw [hB] at a5
    have a5 : ¬ gA h 3011 q = 0 := by rw [a5]; decide
    obtain ⟨b1, b2⟩ := a7 hB
    obtain ⟨lo, hi, o1, o2, o3, o4⟩ := ok hB
    have hM : tHi τ q - tLo τ q = zI ↑(hi - lo) := by rw [o1, o2, zn_sub o3]
    obtain ⟨x, h', e, f, r⟩ := rging_ok (F := F) (dd := dd) hM (by omega) S G hp hF
    refine ⟨x, h', ?_, f, ?_⟩
    · rw [M.2, mp618, nn_s, ln3011, zn_inb (by omega) (by omega), ck_t, zn_cl (by omega), if_neg a5, M.2, mp612, nn_s, ln3005, zn_inb (by omega) (by omega), ck_t, M.2, mp613, nn_s, ln3006, zn_inb (by omega) (by omega), ck_t, b1, b2, e, ca_s]
    · rw [if_pos rfl]
      unfold rngI spn
      rw [hM, zn_cl (by omega)]
      cases hr : rng b (8 * n) (hi - lo) p with
      | none => rw [hr] at r; exact r
      | some z =>
        rw [hr] at r
        obtain ⟨v, p1⟩ := z
        exact ⟨by rw [r.1, ← zI_nat], r.2.1⟩
end Md
