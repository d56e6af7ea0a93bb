/-! THE CLASS READS (8): lists, choices, sequences, and all of it -/
set_option maxRecDepth 100000
section Rg3
variable {sb f n e e0 o F dd d j : Nat} {b : Nat → Nat} {τ : Tb}
theorem bitA_0 {a e : Nat} (h : b a = 0) : bitA b a e = 0 := by
  unfold bitA
  rw [h]
  split <;> rfl
theorem rd_no {t a e m : Nat} (w : WFt τ j t) (hj : j ≤ 200) (h : tS τ t &&& bitA b a e = 0) : rd b τ d t none a e m = none := by
  cases q : rd b τ d t none a e m with
  | none => rfl
  | some r => exact absurd h (rd_bg w hj q)
theorem WFt.lst {t : Nat} (w : WFt τ (j + 1) t) (k : tK τ t = 7) : okS τ t ∧ WFt τ j (tC τ t 0) := by
  rcases w with ⟨k2, -⟩ | ⟨k2, -⟩ | ⟨k2, -⟩ | ⟨k2, -⟩ | ⟨k2, -⟩ | ⟨k2, -, w1, w2⟩ | ⟨k2, -⟩ | ⟨k2, -⟩ <;> first | (exfalso; omega) | exact ⟨w1, w2⟩
theorem WFt.seq {t : Nat} (w : WFt τ (j + 1) t) (k : tK τ t = 6) : tN τ t ≤ 6 ∧ ∀ k, k < tN τ t → tF τ t k ≤ 2 ∧ (tF τ t k = 2 → dOK τ (bas τ 200 (tC τ t k)) (tD τ t k)) ∧ WFt τ j (tC τ t k) := by
  rcases w with ⟨k2, -⟩ | ⟨k2, -⟩ | ⟨k2, -⟩ | ⟨k2, -⟩ | ⟨k2, -, w1, w2⟩ | ⟨k2, -⟩ | ⟨k2, -⟩ | ⟨k2, -⟩ <;> first | (exfalso; omega) | exact ⟨w1, w2⟩
theorem WFt.cho {t : Nat} (w : WFt τ (j + 1) t) (k : tK τ t = 9) : (1 ≤ tN τ t ∧ tN τ t ≤ 6) ∧ (∀ j k, j < k → k < tN τ t → tS τ (tC τ t j) &&& tS τ (tC τ t k) = 0) ∧ ∀ k, k < tN τ t → WFt τ j (tC τ t k) := by
  rcases w with ⟨k2, -⟩ | ⟨k2, -⟩ | ⟨k2, -⟩ | ⟨k2, -⟩ | ⟨k2, -⟩ | ⟨k2, -⟩ | ⟨k2, -, w1, w2⟩ | ⟨k2, -⟩ <;> first | (exfalso; omega) | exact ⟨w1, w2⟩
def okC (τ : Tb) (q x : Nat) : Bool := decide (tB τ q = true → inR (Int32.ofNat x) (tLo τ q) (tHi τ q) = true)
theorem okC_h {h : Hp} {sz q x : Nat} (c : CSz h τ sz q) (hx : x ≤ 120) : fX14_holds F dd sz (zI x) h = some (b2i (okC τ q x), h) := by
  rw [hol_ok c]
  unfold okC
  rw [zI_nat]
  cases w : tB τ q with
  | false => rw [if_neg (show ¬ (false = true) by decide), decide_eq_true (show zI ↑x < 128 from (zn_lt (b := 128) (by omega) (by omega)).mpr (by omega)), decide_eq_true (fun w => by cases w)]
  | true => cases inR (zI ↑x) (tLo τ q) (tHi τ q) <;> simp
/-- the items of a list -/
theorem ls_loop {h0 : Hp} {m0 u0 nm q : Nat} {lo : Bool} {R : Nat → Nat → Int32 → Hp → Option (Option Nat × Hp)} (RO : RdOK F τ b f n R j d) (c : CTy h0 τ (j + 1) nm q) (w : WFt τ (j + 1) q) (k : tK τ q = 7) (ho : o + (j + 1) ≤ 12) :
    ∀ (r nf : Nat) (h : Hp) (a : Nat) (l : List (Nat × Vt d)), LPs h0 h sb f n b τ 7 (zI ↑l.length) m0 u0 a e e0 o lo l → l.length ≤ szs l → 102 ≤ r + (m0 + 1 + szs l) → r < nf →
    ∃ rr h', fX15_read_43 F dd R nf nm 300 (sb + 10 + m0) h = some (rr, h') ∧ RP h0 h' sb f e0 o m0 u0 τ rr (fnG b (okC τ q) q e lo l (rdL b τ (fun t a e m => rd b τ d t none a e m) q e lo r l.length a (m0 + 1 + szs l))) := by
  intro r
  induction r with
  | zero =>
    intro nf h a l L _ hr _
    have := L.2.1.2.2.2.2.2.2.2.2.2.2
    omega
  | succ r ih =>
    intro nf h a l L hl hr hn
    have L0 := L
    obtain ⟨G, R1, st, L1, L2, L3⟩ := L
    obtain ⟨hx0, p, B, s, A0, h3, h4, l1, l2, l3, l4⟩ := R1
    have R1 : RS h sb f n b a e (o + 1) (m0 + 1 + szs l) (u0 + ozs l) := ⟨hx0, p, B, s, A0, h3, h4, l1, l2, l3, l4⟩
    obtain ⟨al, c1⟩ := c.fr st
    rcases c1 with ⟨k2, -⟩ | ⟨k2, -⟩ | ⟨k2, -⟩ | ⟨k2, -⟩ | ⟨k2, -⟩ | ⟨k2, c1, c2, c3, x, c4, c5⟩ | ⟨k2, -⟩ | ⟨k2, -⟩
    all_goals first | (exfalso; omega) | skip
    have w2 := (w.lst k).2
    cases nf with
    | zero => omega
    | succ nf =>
      rw [fX15_read_43, end_ok p B A0 l1 l2 (show o < 12 by omega) lo L1, ca_s]
      rw [rdL]
      by_cases ce : (if lo then decide (a < e ∧ b a = 0) else decide (a = e)) = true
      · rw [ce, if_neg (show ¬ b2i true = 0 by decide)]
        obtain ⟨v, h1, e1, s1, q1⟩ := L0.end (F := F) (dd := dd) (q := q) (show o < 12 by omega) (by rw [k]; rfl)
        rw [e1, ca_s]
        by_cases ci : isE b a e lo = true
        · rw [if_pos ci]
          have hle : lea b a e lo = some (if lo then a + 2 else a) := by unfold lea; rw [if_pos ci]
          rw [hle] at q1
          obtain ⟨t1, t2, t3, t4⟩ := q1
          obtain ⟨al2, c1⟩ := c.fr t2
          rcases c1 with ⟨k2, -⟩ | ⟨k2, -⟩ | ⟨k2, -⟩ | ⟨k2, -⟩ | ⟨k2, -⟩ | ⟨k2, d1, d2, d3, x2, d4, d5⟩ | ⟨k2, -⟩ | ⟨k2, -⟩
          all_goals first | (exfalso; omega) | skip
          rw [t1, if_neg (show ¬ (1 : Int32) = 0 by decide), d2, nn_s, t3, okC_h d3 (by omega), ca_s]
          show ∃ rr h', _ ∧ RP h0 h' sb f e0 o m0 u0 τ rr (if okC τ q (l.length + 0) = true then (match lea b a e lo with | none => none | some a3 => some (mkV q (Int32.ofNat (l.length + 0)) [] (l ++ []), a3)) else none)
          rw [hle, List.append_nil, Nat.add_zero, zI_nat]
          cases cc : okC τ q l.length with
          | false => rw [if_pos (show b2i false = 0 from rfl), if_neg (show ¬ (false = true) by decide)]; exact ⟨_, h1, rfl, RPn s1 rfl⟩
          | true => rw [if_neg (show ¬ b2i true = 0 by decide), if_pos rfl]; exact ⟨_, h1, rfl, t4⟩
        · have hle : lea b a e lo = none := by unfold lea; rw [if_neg ci]
          rw [hle] at q1
          rw [q1, if_pos rfl, if_neg ci]
          have b0 : b a = 0 := by
            cases lo with
            | true => rw [if_pos rfl] at ce; exact (of_decide_eq_true ce).2
            | false => rw [if_neg (by decide)] at ce; exact absurd (by unfold isE; rw [if_neg (by decide)]; exact ce) ci
          rw [rd_no w2 (by omega) (by rw [bitA_0 b0, Nat.and_zero])]
          exact ⟨_, h1, rfl, RPn s1 rfl⟩
      · have ci : ¬ isE b a e lo = true := by
          intro ci
          apply ce
          unfold isE at ci
          cases lo with
          | true => rw [if_pos rfl] at ci ⊢; have := of_decide_eq_true ci; exact decide_eq_true ⟨by omega, this.2.1⟩
          | false => rw [if_neg (by decide)] at ci ⊢; exact ci
        rw [Bool.eq_false_iff.mpr ce, if_pos (show b2i false = 0 from rfl), if_neg ci, bn_d, c4, nn_s]
        obtain ⟨r1, h1, e1, p1⟩ := RO.2 h x (tC τ q 0) none (-1) sb a e (o + 1) (m0 + 1 + szs l) (u0 + ozs l) c5 w2 R1 (by omega) rfl
        obtain ⟨x1, ef1⟩ := RO.1 _ _ _ _ _ hx0 e1
        rw [e1, ca_s]
        unfold fX15_add
        cases hr1 : rd b τ d (tC τ q 0) none a e (m0 + 1 + szs l) with
        | none =>
          rw [hr1] at p1
          rw [p1.2, oc_n, ca_s, if_pos rfl]
          exact ⟨_, h1, rfl, RPn p1.1 rfl⟩
        | some z =>
          obtain ⟨v, a1⟩ := z
          rw [hr1] at p1
          have le := rd_le _ _ _ _ _ _ _ _ l1 hr1
          obtain ⟨u1, h2, e2, u2, L4⟩ := L0.kid (F := F) (dd := dd) x1 ef1 (by decide) (by decide) (by decide) p1.kp p1.2.2.1 p1.2.2.2.2.2.2.2.2 le l.length
          have sv := le.2.2.2
          rw [p1.2.1, oc_s, u1, e2, cv_s, bn_d, u2, zn_succ, ca_s, if_neg (show ¬ (1 : Int32) = 0 by decide)]
          have e3 : (l ++ [(l.length, v)]).length = l.length + 1 := by simp
          have e4 : szs (l ++ [(l.length, v)]) = szs l + sz d v := by rw [szs_app, szs_cons, szs_nil, Nat.add_zero]
          obtain ⟨rr, h3, e5, p5⟩ := ih nf _ a1 (l ++ [(l.length, v)]) (by rw [e3]; exact L4 _) (by rw [e3, e4]; omega) (by rw [e4]; omega) (by omega)
          refine ⟨rr, h3, e5, ?_⟩
          rw [e3, e4, ← Nat.add_assoc, ← fnG_c] at p5
          exact p5
theorem ser_rd {h : Hp} {a m u nm q : Nat} {g : Option Nat} {dg : Int32} {R : Nat → Nat → Int32 → Hp → Option (Option Nat × Hp)} (RO : RdOK F τ b f n R j d) (c : CTy h τ (j + 1) nm q) (w : WFt τ (j + 1) q) (k : tK τ q = 7)
    (S : RS h sb f n b a e0 o m u) (ho : o + (j + 1) ≤ 12) (hF : 1000 ≤ F) (hg : dgO g dg) : ∃ r h', fX15_read F dd R nm 300 dg h = some (r, h') ∧ RP h h' sb f e0 o m u τ r (rd b τ (d + 1) q g a e0 m) := by
  have tb := tgB_gr (τ := τ) (q := q) (by omega)
  have e16 : fX15_read F dd R nm 300 dg h = fX15_read_16 F dd R nm 300 300 (zI ↑(tgB τ q g)) h := by
    unfold fX15_read
    cases g with
    | none => rw [if_pos (show dg = -1 from hg), tb.1]; rfl
    | some y =>
      have := hg.2
      rw [if_neg (show ¬ dg = -1 by rw [hg.1]; exact zn_m1 (by omega)), hg.1]
      rw [tb.2, ← zn_add]
      rfl
  have tb2 : tgB τ q g < 256 := by
    cases g with
    | none => rw [tb.1]; omega
    | some y => have := hg.2; rw [tb.2]; omega
  rw [e16, rd_in (by omega) (by omega)]
  unfold rdIn
  rw [if_neg (show ¬ tK τ q = 6 by omega), if_pos k]
  unfold fX15_read_16 rdLs
  obtain ⟨v, h1, e1, s1, p1, q1⟩ := LPs.ini (F := F) (dd := dd) (τ := τ) (kd := 7) S (show o < 12 by omega) tb2 d
  rw [e1, ca_s]
  cases hen : ent b (tgB τ q g) a e0 with
  | none =>
    rw [hen] at q1
    rw [q1, if_pos rfl]
    unfold fX15_read_36
    exact ⟨_, h1, rfl, RPn s1 (by split <;> rfl)⟩
  | some z =>
    obtain ⟨a1, e1', lo⟩ := z
    rw [hen] at q1
    obtain ⟨r1, q1⟩ := q1
    rw [r1, if_neg (show ¬ (1 : Int32) = 0 by decide), p1, nn_s]
    by_cases hm : m < 100
    · rw [if_pos hm] at q1
      obtain ⟨h2, e2, L⟩ := q1
      rw [e2, ca_s, if_pos hm]
      unfold fX15_read_36
      rw [oc_s]
      obtain ⟨rr, h3, e3, p3⟩ := ls_loop (F := F) (dd := dd) RO c w k ho 101 F h2 a1 [] L (by simp) (by rw [szs_nil]; omega) (by omega)
      refine ⟨rr, h3, e3, ?_⟩
      rw [szs_nil] at p3
      show RP h h3 sb f e0 o m u τ rr (match rdL b τ (fun t a e m => rd b τ d t none a e m) q e1' lo 101 0 a1 (m + 1) with
        | none => none
        | some (ks, a2) => if tB τ q = true → inR (Int32.ofNat ks.length) (tLo τ q) (tHi τ q) = true then
            (match lea b a2 e1' lo with
             | none => none
             | some a3 => some (mkV q (Int32.ofNat ks.length) [] ks, a3)) else none)
      have p4 : RP h h3 sb f e0 o m u τ rr (fnG b (okC τ q) q e1' lo [] (rdL b τ (fun t a e m => rd b τ d t none a e m) q e1' lo 101 0 a1 (m + 1))) := p3
      cases hz : rdL b τ (fun t a e m => rd b τ d t none a e m) q e1' lo 101 0 a1 (m + 1) with
      | none => rw [hz] at p4; exact p4
      | some z =>
        obtain ⟨ks, a2⟩ := z
        rw [hz] at p4
        simp only [fnG, okC, List.length_nil, Nat.zero_add, List.nil_append, decide_eq_true_eq] at p4
        exact p4
    · rw [if_neg hm] at q1
      rw [q1, ca_s, if_neg hm]
      unfold fX15_read_36
      exact ⟨_, h1, rfl, RPn s1 rfl⟩
end Rg3
