/-! THE CLASS READS (3): octets -/
set_option maxRecDepth 100000
section Ro
variable {sb f n e o F d : Nat} {b : Nat → Nat} {τ : Tb}
theorem oc28 {len pn : Nat} (hs : sb = 1000 ∨ sb = 2000) (hp : sb + 10 ≤ pn) (hl : len ≤ 120) : ∀ (r k nf : Nat) (h : Hp) (a u : Nat), SrcP h sb → Buf h f n b → gP h 302 sb = some (sb + 3) → SrcA h f a e o → gI h 304 sb = zI u → gI h 1701 pn = zI k → e ≤ n → k + r = len → a + r ≤ e → u + r ≤ 120 → r < nf →
    ∃ h', fX13_readContent_28 F d nf 300 (zI len) (some pn) (zI k) h = some (some pn, h') ∧ SrcA h' f (a + r) e o ∧ gI h' 304 sb = zI ↑(u + r) ∧ gI h' 1701 pn = zI len ∧ (∀ i, i < r → gA h' (sb + 3) (u + i) = zI (b (a + i))) ∧
      (∀ y i, ¬ (y = sb + 3 ∧ u ≤ i) → gA h' y i = gA h y i) ∧ gP h' = gP h ∧ gL h' = gL h ∧ gR h' = gR h ∧ ∀ g y, ¬ (g = 401 ∧ y = 300) → ¬ (g = 304 ∧ y = sb) → ¬ (g = 1701 ∧ y = pn) → gI h' g y = gI h g y := by
  intro r
  induction r with
  | zero =>
    intro k nf h a u p B P A h4 h1 he hk ha hu hn
    cases nf with
    | zero => omega
    | succ nf =>
      have : k = len := by omega
      subst this
      rw [fX13_readContent_28, if_pos (Int32.le_refl _)]
      exact ⟨h, rfl, A, h4, h1, fun i hi => by omega, fun _ _ _ => rfl, rfl, rfl, rfl, fun _ _ _ _ _ => rfl⟩
  | succ r ih =>
    intro k nf h a u p B P A h4 h1 he hk ha hu hn
    cases nf with
    | zero => omega
    | succ nf =>
      have hb := B.1
      have l3 : nd_Ln (sb + 3) = 120 := by rcases hs with q | q <;> rw [q] <;> rfl
      rw [fX13_readContent_28, if_neg (show ¬ zI ↑len ≤ zI ↑k from fun q => by rw [zn_le (by omega) (by omega)] at q; omega), oc_s, p.2.2.1, nn_s, next_in p B A (by omega) he, ca_s]
      have e4 : gI (sI h 401 300 (zI ↑(f + (a + 1)))) 304 sb = zI ↑u := by rw [gI_sI, if_neg (by omega)]; exact h4
      have E : fX13_add F d pn sb (zI ↑(b a)) (sI h 401 300 (zI ↑(f + (a + 1)))) = some (sI (sA (sI (sI h 401 300 (zI ↑(f + (a + 1)))) 304 sb (zI ↑(u + 1))) (sb + 3) u (zI ↑(b a))) 1701 pn (zI ↑(k + 1))) := by
        unfold fX13_add
        rw [gP_sI, P, nn_s, bn_d, e4, bn_d, l3, zn_inb (by omega) (by omega), ck_t, bn_d, bn_d, zn_succ, zn_cl (by omega)]
        have e5 : gI (sA (sI (sI h 401 300 (zI ↑(f + (a + 1)))) 304 sb (zI ↑(u + 1))) (sb + 3) u (zI ↑(b a))) 1701 pn = zI ↑k := by
          rw [gI_sA, gI_sI, if_neg (by omega), gI_sI, if_neg (by omega)]; exact h1
        rw [e5, zn_succ]
      rw [E, cv_s, bn_d, zn_succ]
      obtain ⟨h', q1, q2, q3, q4, q5, q6, q7, q8, q9, q10⟩ := ih (k + 1) nf (sI (sA (sI (sI h 401 300 (zI ↑(f + (a + 1)))) 304 sb (zI ↑(u + 1))) (sb + 3) u (zI ↑(b a))) 1701 pn (zI ↑(k + 1))) (a + 1) (u + 1) p
        ⟨B.1, fun i hi => ⟨by rw [gA_sI, gA_sA, if_neg (by omega)]; exact (B.2 i hi).1, (B.2 i hi).2⟩⟩ P
        ⟨by rw [gI_sI, if_neg (by omega), gI_sA, gI_sI, if_neg (by omega), gI_sI, if_pos ⟨rfl, rfl⟩], by rw [gI_sI, if_neg (by omega), gI_sA, gI_sI, if_neg (by omega), gI_sI, if_neg (by omega)]; exact A.2.1, by rw [gI_sI, if_neg (by omega), gI_sA, gI_sI, if_neg (by omega), gI_sI, if_neg (by omega)]; exact A.2.2⟩
        (by rw [gI_sI, if_neg (by omega), gI_sA, gI_sI, if_pos ⟨rfl, rfl⟩]) (by rw [gI_sI, if_pos ⟨rfl, rfl⟩]) he (by omega) (by omega) (by omega) (by omega)
      refine ⟨h', q1, by rw [show a + (r + 1) = a + 1 + r by omega]; exact q2, by rw [show u + (r + 1) = u + 1 + r by omega]; exact q3, q4, fun i hi => ?_, fun y i hy => ?_, q7, q8, q9, fun g y y1 y2 y3 => ?_⟩
      · cases i with
        | zero =>
          rw [q6 _ _ (by omega), gA_sI, gA_sA, if_pos ⟨rfl, rfl⟩]; rfl
        | succ i =>
          have := q5 i (by omega)
          rw [show u + (i + 1) = u + 1 + i by omega, show a + (i + 1) = a + 1 + i by omega]; exact this
      · rw [q6 y i (by omega), gA_sI, gA_sA, if_neg (by omega)]; rfl
      · rw [q10 g y y1 y2 y3, gI_sI, if_neg y3, gI_sA, gI_sI, if_neg y2, gI_sI, if_neg y1]
theorem StP.eq {h h' : Hp} (s : StP h sb) (e1 : gP h' = gP h) (e2 : gL h' = gL h) (e3 : gR h' = gR h) : StP h' sb := by
  unfold StP at s ⊢
  rw [e1, e2, e3]
  exact s
theorem byL_get {a q x len : Nat} (hq : (byL b a len)[q]? = some x) : q < len ∧ x = b (a + q) := by
  unfold byL at hq
  rw [List.getElem?_map, Option.map_eq_some_iff] at hq
  obtain ⟨y, h1, h2⟩ := hq
  rw [List.getElem?_eq_some_iff] at h1
  obtain ⟨h3, h4⟩ := h1
  rw [List.length_range] at h3
  rw [List.getElem_range] at h4
  subst h4
  exact ⟨h3, h2.symm⟩
theorem oct_rc {h : Hp} {a m u : Nat} (R : RS h sb f n b a e o m u) {nm q len : Nat} (k : tK τ q = 4) (c1 : gP h 1300 nm = some (nm + 1)) (c2 : CSz h τ (nm + 1) q) (hF : 1000 ≤ F) (hl : a + len ≤ e) (d' : Nat) :
    ∃ r h', fX13_readContent F d nm 300 (zI len) h = some (r, h') ∧ RP h h' sb f e o m u τ r (if m < 100 then (match leaf b τ q a len with | none => none | some (x, os) => some ((mkV q x os [] : Vt (d' + 1)), a + len)) else none) := by
  obtain ⟨hx, p, B, s, A, h3, h4, l1, l2, l3, l4⟩ := R
  have hb := B.1
  have L : leaf b τ q a len = if tB τ q = true → inR (Int32.ofNat len) (tLo τ q) (tHi τ q) = true then some (Int32.ofNat len, byL b a len) else none := by
    unfold leaf; rw [if_neg (show ¬ tK τ q = 5 by omega), if_neg (show ¬ tK τ q = 1 by omega), if_neg (show ¬ tK τ q = 2 by omega)]
  have hw : (if tB τ q then inR (zI ↑len) (tLo τ q) (tHi τ q) else decide (zI ↑len < 128)) = decide (tB τ q = true → inR (Int32.ofNat len) (tLo τ q) (tHi τ q) = true) := by
    rw [zI_nat]
    cases w : tB τ q with
    | false => rw [if_neg (show ¬ (false = true) by decide), decide_eq_true (show zI ↑len < 128 from (zn_lt (b := 128) (by omega) (by omega)).mpr (by omega)), decide_eq_true (fun w => by cases w)]
    | true => cases inR (zI ↑len) (tLo τ q) (tHi τ q) <;> simp
  have nof : ∀ hh : Hp, fX13_readContent_24 F d 300 (zI ↑len) none hh = some (none, hh) := by
    intro hh
    unfold fX13_readContent_24
    obtain ⟨F', rfl⟩ : ∃ F', F = F' + 1 := ⟨F - 1, by omega⟩
    rw [fX13_readContent_28]
    split <;> rfl
  rw [L]
  unfold fX13_readContent
  rw [c1, nn_s, hol_ok c2, ca_s, hw]
  by_cases c : tB τ q = true → inR (Int32.ofNat len) (tLo τ q) (tHi τ q) = true
  · rw [decide_eq_true c, if_neg (show ¬ b2i true = 0 by decide), if_pos c, p.2.2.1, nn_s]
    by_cases hm : m < 100
    · obtain ⟨h1, e1, s1, M⟩ := make_ok (F := F) (d := d) s h3 hm 4 0
      have ef := (eX3_make F d hx e1).2
      rw [e1, ca_s, if_pos hm]
      have hs := s.1
      obtain ⟨h', q1, q2, q3, q4, q5, q6, q7, q8, q9, q10⟩ := oc28 (F := F) (d := d) (f := f) (n := n) (b := b) (e := e) (o := o) (len := len) (pn := sb + 10 + m) hs (by omega) (by omega) len 0 F h1 a u (p.fr ef (by decide)) (B.fr p.1.2.2.2 ef (by decide)) s1.2.2.1.2.2 (A.fr p.1.1 ef (by decide)) (M.2.1.trans h4) M.2.2.2.1.2.1 l2 (by omega) hl (by omega) (by omega)
      refine ⟨_, h', by unfold fX13_readContent_24; exact q1, s1.eq q7 q8 q9, rfl, q2, ?_, ?_, ⟨⟨?_, ?_, ?_, ?_⟩, fun i x hi => ?_, ?_⟩, fun i hi g => ⟨?_, ?_⟩, fun i hi => ?_, fun i hi => ⟨?_, ?_⟩⟩
      · rw [q10 303 sb (by omega) (by omega) (by omega)]; exact M.1
      · rw [q3, oz_mk, ozs_nil]; simp [byL]
      · rw [q8]; exact M.2.2.1
      · rw [q10 1700 _ (by omega) (by omega) (by omega)]; show _ = zI ↑(tK τ q); rw [k]; exact M.2.2.2.1.1
      · rw [q4]; exact (zI_nat len).symm
      · rw [q10 1702 _ (by omega) (by omega) (by omega)]; exact M.2.2.2.1.2.2.trans h4
      · obtain ⟨b1, b2⟩ := byL_get hi
        rw [b2]; exact q5 i b1
      · rw [q7]; exact M.2.2.2.2.1.1
      · rw [q10 g _ (by omega) (by omega) (by omega)]; exact (M.2.2.2.2.2.1 i hi g).1
      · rw [q7]; exact (M.2.2.2.2.2.1 i hi g).2
      · rw [q6 _ _ (by omega)]; exact M.2.2.2.2.2.2 _ _ (by omega)
      · rw [q6 _ _ (by omega)]; exact M.2.2.2.2.2.2 _ _ (by omega)
      · rw [q6 _ _ (by omega)]; exact M.2.2.2.2.2.2 _ _ (by omega)
    · rw [make_no h3 (by omega) (by omega), ca_s, nof, if_neg hm]
      exact ⟨_, h, rfl, RPn s rfl⟩
  · rw [decide_eq_false c, if_pos (show b2i false = 0 by decide), if_neg c, nof]
    exact ⟨_, h, rfl, RPn s (by split <;> rfl)⟩
end Ro
