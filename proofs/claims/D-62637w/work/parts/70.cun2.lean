/-! THE CLASS UNPACKS (3): octets, ranks, groups under way -/
set_option maxRecDepth 100000
section Uo
variable {sb f n F d p : Nat} {b : Nat → Nat} {τ : Tb}
theorem ou83 {len pn : Nat} (hs : sb = 1000 ∨ sb = 2000) (hp : sb + 10 ≤ pn) (hl : len ≤ 127) (hF : 1000 ≤ F) : ∀ (r k nf : Nat) (h : Hp) (p u : Nat), SrcP h sb → Buf h f n b → gP h 302 sb = some (sb + 3) → BtA h f n p → gI h 304 sb = zI u → gI h 1701 pn = zI k → k + r = len → p + 8 * r ≤ 8 * n → u + r ≤ 120 → r < nf →
    ∃ h', fX13_unpack_83 F d nf 300 (zI len) (some pn) (zI k) h = some (some pn, h') ∧ BtA h' f n (p + 8 * r) ∧ gI h' 304 sb = zI ↑(u + r) ∧ gI h' 1701 pn = zI len ∧ (∀ i, i < r → gA h' (sb + 3) (u + i) = zI ↑(tkv b (p + 8 * i) 8)) ∧
      (∀ y i, ¬ (y = sb + 3 ∧ u ≤ i) → gA h' y i = gA h y i) ∧ gP h' = gP h ∧ gL h' = gL h ∧ gR h' = gR h ∧ ∀ g y, ¬ (g = 403 ∧ y = 300) → ¬ (g = 304 ∧ y = sb) → ¬ (g = 1701 ∧ y = pn) → gI h' g y = gI h g y := by
  intro r
  induction r with
  | zero =>
    intro k nf h p u P B Q A h4 h1 hk ha hu hn
    cases nf with
    | zero => omega
    | succ nf =>
      have : k = len := by omega
      subst this
      rw [fX13_unpack_83, if_pos (Int32.le_refl _)]
      exact ⟨h, rfl, A, h4, h1, fun i hi => by omega, fun _ _ _ => rfl, rfl, rfl, rfl, fun _ _ _ _ _ => rfl⟩
  | succ r ih =>
    intro k nf h p u P B Q A h4 h1 hk ha hu hn
    cases nf with
    | zero => omega
    | succ nf =>
      have hb := B.1
      have l3 : nd_Ln (sb + 3) = 120 := by rcases hs with q | q <;> rw [q] <;> rfl
      rw [fX13_unpack_83, if_neg (show ¬ zI ↑len ≤ zI ↑k from fun q => by rw [zn_le (by omega) (by omega)] at q; omega), oc_s, P.2.2.1, nn_s, show (8 : Int32) = zI ↑(8 : Nat) from rfl, take_ok P B A (by omega) (by omega) hF, ca_s, tkz_in b _ _ _ (by omega)]
      have e4 : gI (sI h 403 300 (zI ↑(8 * f + (p + 8)))) 304 sb = zI ↑u := by rw [gI_sI, if_neg (by omega)]; exact h4
      have E : fX13_add F d pn sb (zI ↑(tkv b p 8)) (sI h 403 300 (zI ↑(8 * f + (p + 8)))) = some (sI (sA (sI (sI h 403 300 (zI ↑(8 * f + (p + 8)))) 304 sb (zI ↑(u + 1))) (sb + 3) u (zI ↑(tkv b p 8))) 1701 pn (zI ↑(k + 1))) := by
        unfold fX13_add
        rw [gP_sI, Q, nn_s, bn_d, e4, bn_d, l3, zn_inb (by omega) (by omega), ck_t, bn_d, bn_d, zn_succ, zn_cl (by omega)]
        have e5 : gI (sA (sI (sI h 403 300 (zI ↑(8 * f + (p + 8)))) 304 sb (zI ↑(u + 1))) (sb + 3) u (zI ↑(tkv b p 8))) 1701 pn = zI ↑k := by
          rw [gI_sA, gI_sI, if_neg (by omega), gI_sI, if_neg (by omega)]; exact h1
        rw [e5, zn_succ]
      rw [E, cv_s, bn_d, zn_succ]
      obtain ⟨h', q1, q2, q3, q4, q5, q6, q7, q8, q9, q10⟩ := ih (k + 1) nf (sI (sA (sI (sI h 403 300 (zI ↑(8 * f + (p + 8)))) 304 sb (zI ↑(u + 1))) (sb + 3) u (zI ↑(tkv b p 8))) 1701 pn (zI ↑(k + 1))) (p + 8) (u + 1) P
        ⟨B.1, fun i hi => ⟨by rw [gA_sI, gA_sA, if_neg (by omega)]; exact (B.2 i hi).1, (B.2 i hi).2⟩⟩ Q
        ⟨by rw [gI_sI, if_neg (by omega), gI_sA, gI_sI, if_neg (by omega), gI_sI, if_pos ⟨rfl, rfl⟩], by rw [gI_sI, if_neg (by omega), gI_sA, gI_sI, if_neg (by omega), gI_sI, if_neg (by omega)]; exact A.2⟩
        (by rw [gI_sI, if_neg (by omega), gI_sA, gI_sI, if_pos ⟨rfl, rfl⟩]) (by rw [gI_sI, if_pos ⟨rfl, rfl⟩]) (by omega) (by omega) (by omega) (by omega)
      refine ⟨h', q1, by rw [show p + 8 * (r + 1) = p + 8 + 8 * r by omega]; exact q2, by rw [show u + (r + 1) = u + 1 + r by omega]; exact q3, q4, fun i hi => ?_, fun y i hy => ?_, q7, q8, q9, fun g y y1 y2 y3 => ?_⟩
      · cases i with
        | zero =>
          rw [q6 _ _ (by omega), gA_sI, gA_sA, if_pos ⟨rfl, rfl⟩]; rfl
        | succ i =>
          have := q5 i (by omega)
          rw [show u + (i + 1) = u + 1 + i by omega, show p + 8 * (i + 1) = p + 8 + 8 * i by omega]; exact this
      · rw [q6 y i (by omega), gA_sI, gA_sA, if_neg (by omega)]; rfl
      · rw [q10 g y y1 y2 y3, gI_sI, if_neg y3, gI_sA, gI_sI, if_neg y2, gI_sI, if_neg y1]
theorem octs_get {p q x len : Nat} (hq : (octs b p len)[q]? = some x) : q < len ∧ x = tkv b (p + 8 * q) 8 := by
  unfold octs at hq
  rw [List.getElem?_map, Option.map_eq_some_iff] at hq
  obtain ⟨y, h1, h2⟩ := hq
  rw [List.getElem?_eq_some_iff] at h1
  obtain ⟨h3, h4⟩ := h1
  rw [List.length_range] at h3
  rw [List.getElem_range] at h4
  subst h4
  exact ⟨h3, h2.symm⟩
theorem ou47 {h : Hp} {m u q len : Nat} (S : US h sb f n b p m u) (k : tK τ q = 4) (hl : len ≤ 127) (hF : 1000 ≤ F) (d' : Nat) :
    ∃ r h', fX13_unpack_47 F d 300 (zI len) h = some (r, h') ∧ UP h h' sb f n m u τ r (if m < 100 then (if p + 8 * len ≤ 8 * n then some ((mkV q (zI len) (octs b p len) [] : Vt (d' + 1)), p + 8 * len) else none) else none) := by
  obtain ⟨hx, P, B, s, A, h3, h4, l1, l2, l4⟩ := S
  have hb := B.1
  have nof : ∀ hh : Hp, fX13_unpack_79 F d 300 (zI ↑len) none hh = some (none, hh) := by
    intro hh
    unfold fX13_unpack_79
    obtain ⟨F', rfl⟩ : ∃ F', F = F' + 1 := ⟨F - 1, by omega⟩
    rw [fX13_unpack_83]
    split <;> rfl
  unfold fX13_unpack_47
  have e1 : gI h 403 300 + 8 * zI ↑len = zI ↑(8 * f + p + 8 * len) := by rw [A.1, show (8 : Int32) = zI 8 from rfl, zI_mul, zI_add]; congr 1
  have e2 : (8 : Int32) * gI h 402 300 = zI ↑(8 * (f + n)) := by rw [A.2, show (8 : Int32) = zI 8 from rfl, zI_mul]; congr 1
  rw [e1, e2]
  by_cases c : p + 8 * len ≤ 8 * n
  · rw [if_pos ((zn_le (by omega) (by omega)).mpr (by omega)), if_pos c, P.2.2.1, nn_s]
    by_cases hm : m < 100
    · obtain ⟨h1, e3, s1, M⟩ := make_ok (F := F) (d := d) s h3 hm 4 0
      have ef := (eX3_make F d hx e3).2
      rw [e3, ca_s, if_pos hm]
      have hs := s.1
      obtain ⟨h', q1, q2, q3, q4, q5, q6, q7, q8, q9, q10⟩ := ou83 (F := F) (d := d) (f := f) (n := n) (b := b) (len := len) (pn := sb + 10 + m) hs (by omega) hl hF len 0 F h1 p u (P.fr ef (by decide)) (B.fr P.1.2.2.2 ef (by decide)) s1.2.2.1.2.2 (A.fr P.1.1 ef (by decide)) (M.2.1.trans h4) M.2.2.2.1.2.1 (by omega) c (by omega) (by omega)
      refine ⟨_, h', by unfold fX13_unpack_79; exact q1, s1.eq q7 q8 q9, rfl, q2, s1.eq q7 q8 q9, ?_, ?_, ⟨⟨?_, ?_, ?_, ?_⟩, fun i x hi => ?_, ?_⟩, fun i hi g => ⟨?_, ?_⟩, fun i hi => ?_⟩
      · rw [q10 303 sb (by omega) (by omega) (by omega)]; exact M.1
      · rw [q3, oz_mk, ozs_nil]; simp [octs]
      · rw [q8]; exact M.2.2.1
      · rw [q10 1700 _ (by omega) (by omega) (by omega)]; show _ = zI ↑(tK τ q); rw [k]; exact M.2.2.2.1.1
      · rw [q4]; rfl
      · rw [q10 1702 _ (by omega) (by omega) (by omega)]; exact M.2.2.2.1.2.2.trans h4
      · obtain ⟨b1, b2⟩ := octs_get hi
        rw [b2]; exact q5 i b1
      · rw [q7]; exact M.2.2.2.2.1.1
      · rw [q10 g _ (by omega) (by omega) (by omega)]; exact (M.2.2.2.2.2.1 i hi g).1
      · rw [q7]; exact (M.2.2.2.2.2.1 i hi g).2
      · rw [q6 _ _ (by omega)]; exact M.2.2.2.2.2.2 _ _ (by omega)
    · rw [make_no h3 (by omega) (by omega), ca_s, nof, if_neg hm]
      exact ⟨_, h, rfl, UPn s rfl⟩
  · rw [if_neg (show ¬ zI ↑(8 * f + p + 8 * len) ≤ zI ↑(8 * (f + n)) from fun z => by rw [zn_le (by omega) (by omega)] at z; omega), if_neg c, nof]
    exact ⟨_, h, rfl, UPn s (by split <;> rfl)⟩
theorem CSz.st3 {h : Hp} {sz q g : Nat} {v : Int32} (hg : ¬ g = 1400 ∧ ¬ g = 1401 ∧ ¬ g = 1402) (c : CSz h τ sz q) : CSz (sI h g 300 v) τ sz q := by
  refine ⟨c.1, ?_, fun w => ⟨?_, ?_⟩⟩
  · rw [gI_sI, if_neg (by omega)]; exact c.2.1
  · rw [gI_sI, if_neg (by omega)]; exact (c.2.2 w).1
  · rw [gI_sI, if_neg (by omega)]; exact (c.2.2 w).2
theorem shs_ok {h : Hp} {sz q : Nat} (c : CSz h τ sz q) : fX14_isShort F d sz h = some (b2i (tB τ q && sho τ q), h) := by
  unfold fX14_isShort sho
  rw [c.2.1]
  cases w : tB τ q with
  | false => rw [if_pos (show b2i false = 0 from rfl)]; rfl
  | true =>
    rw [if_neg (show ¬ b2i true = 0 by decide), (c.2.2 w).1, (c.2.2 w).2]
    by_cases c1 : tLo τ q = tHi τ q
    · rw [if_pos c1, decide_eq_true c1]
      by_cases c2 : 2 < tHi τ q
      · rw [if_pos c2, decide_eq_false (Int32.not_le.mpr c2)]; rfl
      · rw [if_neg c2, decide_eq_true (Int32.not_lt.mp c2)]; rfl
    · rw [if_neg c1, decide_eq_false c1]; rfl
theorem hol2 {h : Hp} {sz q : Nat} (c : CSz h τ sz q) (x : Int32) : fX14_holds F d sz x h = some (b2i (hld τ q x), h) := hol_ok c x
/-- octets are unpacked -/
theorem ou_ok {h : Hp} {m u nm q : Nat} (S : US h sb f n b p m u) (k : tK τ q = 4) (c1 : gP h 1300 nm = some (nm + 1)) (c2 : CSz h τ (nm + 1) q) (ok : okS τ q) (hF : 1000 ≤ F) (d' : Nat) :
    ∃ r h', fX13_unpack F d nm 300 h = some (r, h') ∧ UP h h' sb f n m u τ r (if m < 100 then (match cnt b (8 * n) τ q p with
         | none => none
         | some (x, p1) => if (if tB τ q = true ∧ ¬ x = 0 ∧ sho τ q = false then al8 p1 else p1) + 8 * x.toNatClampNeg ≤ 8 * n then
             some ((mkV q x (octs b (if tB τ q = true ∧ ¬ x = 0 ∧ sho τ q = false then al8 p1 else p1) x.toNatClampNeg) [] : Vt (d' + 1)), (if tB τ q = true ∧ ¬ x = 0 ∧ sho τ q = false then al8 p1 else p1) + 8 * x.toNatClampNeg) else none) else none) := by
  have S0 := S
  obtain ⟨hx, P, B, s, A, h3, h4, l1, l2, l4⟩ := S
  have hb := B.1
  obtain ⟨x, p1, e1, g1, g2, g3⟩ := cnt_ok (F := F) (d := d) S0 c2 ok hF
  unfold fX13_unpack
  rw [c1, nn_s, e1, ca_s, thr_ok (h := sI h 403 300 (zI ↑(8 * f + p1))) (A.st _) hb (by omega), ca_s]
  have c3 := c2.st3 (g := 403) (v := zI ↑(8 * f + p1)) (by omega)
  cases hc : cnt b (8 * n) τ q p with
  | none =>
    rw [hc] at g3
    by_cases z : p1 ≤ 8 * n
    · rw [decide_eq_true z, if_neg (show ¬ b2i true = 0 by decide), gP_sI, c1, nn_s, hol2 c3, ca_s, g3 z, if_pos (show b2i false = 0 from rfl)]
      exact ⟨_, _, rfl, UPn s (by split <;> rfl)⟩
    · rw [decide_eq_false z, if_pos (show b2i false = 0 from rfl)]
      exact ⟨_, _, rfl, UPn s (by split <;> rfl)⟩
  | some w =>
    obtain ⟨y, p2⟩ := w
    rw [hc] at g3
    obtain ⟨y1, y2, y3, y4, N, y5, y6, y7⟩ := g3
    subst y1 y2 y5
    rw [decide_eq_true y3, if_neg (show ¬ b2i true = 0 by decide), gP_sI, c1, nn_s, hol2 c3, ca_s, y4, if_neg (show ¬ b2i true = 0 by decide)]
    dsimp only
    rw [zn_cl (by omega)]
    have S1 := S0.at (x := p2) (by omega) y3
    by_cases z : N = 0
    · subst z
      rw [if_pos (show zI ↑(0 : Nat) ≤ 0 from Int32.le_refl _)]
      obtain ⟨r, h', e4, q4⟩ := ou47 (F := F) (d := d) (τ := τ) (len := 0) S1 k (by omega) hF d'
      refine ⟨r, h', e4, ?_⟩
      have e0 : (if tB τ q = true ∧ ¬ zI ↑(0 : Nat) = 0 ∧ sho τ q = false then al8 p2 else p2) = p2 := if_neg (fun w => w.2.1 rfl)
      simp only [e0]
      exact q4.at
    · have hz : ¬ zI ↑N ≤ 0 := fun w => by have := (zn_le (b := 0) (by omega) (by omega)).mp w; omega
      have hz2 : ¬ zI ↑N = 0 := zn_ne 0 (v := 0) z rfl (by omega) (by omega)
      rw [if_neg hz, gP_sI, c1, nn_s, shs_ok c3, ca_s]
      by_cases sh : (tB τ q && sho τ q) = true
      · rw [sh, if_neg (show ¬ b2i true = 0 by decide)]
        rw [Bool.and_eq_true] at sh
        obtain ⟨r, h', e4, q4⟩ := ou47 (F := F) (d := d) (τ := τ) (len := N) S1 k y6 hF d'
        refine ⟨r, h', e4, ?_⟩
        have e0 : (if tB τ q = true ∧ ¬ zI ↑N = 0 ∧ sho τ q = false then al8 p2 else p2) = p2 := if_neg (fun w => by rw [sh.2] at w; cases w.2.2)
        simp only [e0]
        exact q4.at
      · have a8 : p2 ≤ al8 p2 ∧ al8 p2 ≤ p2 + 7 := by unfold al8; omega
        have a9 : al8 p2 ≤ 8 * n := by unfold al8; omega
        rw [Bool.eq_false_iff.mpr sh, if_pos (show b2i false = 0 from rfl), alg_ok (h := sI h 403 300 (zI ↑(8 * f + p2))) (A.st _) (by omega) (by omega), cv_s, sI_sI]
        obtain ⟨r, h', e4, q4⟩ := ou47 (F := F) (d := d) (τ := τ) (len := N) (S0.at (x := al8 p2) (by omega) a9) k y6 hF d'
        refine ⟨r, h', e4, ?_⟩
        have e0 : (if tB τ q = true ∧ ¬ zI ↑N = 0 ∧ sho τ q = false then al8 p2 else p2) = al8 p2 := by
          cases w : tB τ q with
          | false => rw [if_neg (fun w => by cases w.1)]; exact (y7 w).symm
          | true =>
            rw [w, Bool.true_and] at sh
            exact if_pos ⟨rfl, hz2, Bool.eq_false_iff.mpr sh⟩
        simp only [e0]
        exact q4.at
/-- the rank of an alternative -/
theorem rnk_lp {h : Hp} {j nm q k c0 : Nat} (C : CTy h τ (j + 1) nm q) (w : WFt τ (j + 1) q) (k9 : tK τ q = 9) (hk : k < tN τ q) (hj : j ≤ d) (hF : 1000 ≤ F) :
    ∀ (r i nf : Nat), i + r = tN τ q → r < nf → fX12_rank_4 F d nf nm (zI k) (zI ↑(c0 + ((List.range i).countP fun i => decide (lsb τ (tC τ q i) < lsb τ (tC τ q k))))) (zI i) h = some (zI ↑(c0 + rnk τ q k), h) := by
  have w3 := w.cho k9
  obtain ⟨al, c1⟩ := C
  rcases c1 with ⟨k2, -⟩ | ⟨k2, -⟩ | ⟨k2, -⟩ | ⟨k2, -⟩ | ⟨k2, -⟩ | ⟨k2, -⟩ | ⟨k2, c1, ⟨c2, c3⟩, c4, c5⟩ | ⟨k2, -⟩
  all_goals first | (exfalso; omega) | skip
  have ln6 : nd_Ln (nm + 1) = 6 := nd_Kd_Ln (by omega)
  obtain ⟨ck, ck1, ck2⟩ := c5 k hk
  have wk := w3.2.2 k hk
  intro r
  induction r with
  | zero =>
    intro i nf hi hn
    cases nf with
    | zero => omega
    | succ nf =>
      have : i = tN τ q := by omega
      subst this
      rw [fX12_rank_4, c4, if_pos (Int32.le_refl _)]
      rfl
  | succ r ih =>
    intro i nf hi hn
    cases nf with
    | zero => omega
    | succ nf =>
      obtain ⟨ci, ci1, ci2⟩ := c5 i (by omega)
      have wi := w3.2.2 i (by omega)
      rw [fX12_rank_4, c4, if_neg (show ¬ zI ↑(tN τ q) ≤ zI ↑i from fun z => by rw [zn_le (by omega) (by omega)] at z; omega), c2, nn_s, ln6, zn_inb (show i < 6 by omega) (by omega), ck_t, bn_d, zn_cl (by omega), ci1, nn_s, tags_ok (by omega) ci2 wi hj, ca_s]
      unfold fX12_least
      rw [ca_s, c2, nn_s, ln6, zn_inb (show k < 6 by omega) (by omega), ck_t, bn_d, zn_cl (by omega), ck1, nn_s, tags_ok (by omega) ck2 wk hj, ca_s, ca_s]
      unfold fX12_rank_45
      have e1 : (List.range (i + 1)).countP (fun i => decide (lsb τ (tC τ q i) < lsb τ (tC τ q k))) = (List.range i).countP (fun i => decide (lsb τ (tC τ q i) < lsb τ (tC τ q k))) + (if lsb τ (tC τ q i) < lsb τ (tC τ q k) then 1 else 0) := by
        rw [List.range_succ, List.countP_append]
        congr 1
        by_cases z : lsb τ (tC τ q i) < lsb τ (tC τ q k)
        · rw [if_pos z]; simp [z]
        · rw [if_neg z]; simp [z]
      have I := ih (i + 1) nf (by omega) (by omega)
      rw [e1] at I
      by_cases z : lsb τ (tC τ q i) < lsb τ (tC τ q k)
      · rw [if_neg (show ¬ zI ↑(tS τ (tC τ q k)) &&& -zI ↑(tS τ (tC τ q k)) ≤ zI ↑(tS τ (tC τ q i)) &&& -zI ↑(tS τ (tC τ q i)) from Int32.not_le.mpr z), bn_d, bn_d, zn_succ, show (1 : Int32) = zI ↑(1 : Nat) from rfl, zn_add]
        rw [if_pos z, ← Nat.add_assoc] at I
        exact I
      · rw [if_pos (show zI ↑(tS τ (tC τ q k)) &&& -zI ↑(tS τ (tC τ q k)) ≤ zI ↑(tS τ (tC τ q i)) &&& -zI ↑(tS τ (tC τ q i)) from Int32.not_lt.mp z), bn_d, bn_d, zn_succ, show (0 : Int32) = zI ↑(0 : Nat) from rfl, zn_add]
        rw [if_neg z, ← Nat.add_assoc] at I
        exact I
theorem rnk_ok {h : Hp} {j nm q k : Nat} (C : CTy h τ (j + 1) nm q) (w : WFt τ (j + 1) q) (k9 : tK τ q = 9) (hk : k < tN τ q) (hj : j ≤ d) (hF : 1000 ≤ F) : fX12_rank F d nm (zI k) h = some (zI ↑(rnk τ q k), h) := by
  have w3 := w.cho k9
  have := rnk_lp (F := F) (d := d) (c0 := 0) C w k9 hk hj hF (tN τ q) 0 F (by omega) (by omega)
  unfold fX12_rank
  rw [Nat.zero_add, Nat.zero_add] at this
  exact this
end Uo
