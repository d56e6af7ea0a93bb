/-! THE CLASS UNPACKS (6): sequences, and all of it -/
set_option maxRecDepth 100000
/-- marks as a number -/
def thV : List Bool → Nat
  | [] => 0
  | x :: l => x.toNat + 2 * thV l
theorem thV_lt : ∀ l : List Bool, thV l < 2 ^ l.length := by
  intro l
  induction l with
  | nil => exact Nat.one_pos
  | cons x l ih =>
    rw [thV, List.length_cons, Nat.pow_succ]
    have : x.toNat ≤ 1 := by cases x <;> decide
    omega
theorem thV_app (x : Bool) : ∀ l : List Bool, thV (l ++ [x]) = thV l + x.toNat * 2 ^ l.length := by
  intro l
  induction l with
  | nil => show x.toNat + 2 * 0 = 0 + x.toNat * 1; omega
  | cons y l ih =>
    show y.toNat + 2 * thV (l ++ [x]) = y.toNat + 2 * thV l + x.toNat * 2 ^ (l.length + 1)
    have e : x.toNat * 2 ^ (l.length + 1) = 2 * (x.toNat * 2 ^ l.length) := by rw [Nat.pow_succ, ← Nat.mul_assoc, Nat.mul_comm]
    rw [ih, e, Nat.mul_add]
    omega
theorem thV_bit : ∀ (l : List Bool) (k : Nat), (thV l).testBit k = l.getD k false := by
  intro l
  induction l with
  | nil => intro k; show (0 : Nat).testBit k = _; rw [Nat.zero_testBit]; rfl
  | cons x l ih =>
    intro k
    have hx : x.toNat ≤ 1 := by cases x <;> decide
    cases k with
    | zero =>
      rw [Nat.testBit_zero, thV]
      show decide ((x.toNat + 2 * thV l) % 2 = 1) = x
      have : (x.toNat + 2 * thV l) % 2 = x.toNat := by omega
      rw [this]
      cases x <;> rfl
    | succ k =>
      rw [Nat.testBit_succ, thV, show (x.toNat + 2 * thV l) / 2 = thV l by omega, ih k]
      rfl
theorem thV_or (x : Bool) (l : List Bool) (hl : l.length < 31) : zI ↑(thV l) ||| (zI ↑x.toNat <<< (zI ↑l.length &&& 31)) = zI ↑(thV (l ++ [x])) := by
  rw [zn_31 (by omega), zI_shl (by omega)]
  have : ((x.toNat : Nat) : Int) * 2 ^ l.length = ((2 ^ l.length * x.toNat : Nat) : Int) := by rw [Nat.mul_comm]; push_cast; rfl
  rw [this, zI_or, Nat.or_comm, ← Nat.two_pow_add_eq_or_of_lt (thV_lt l), thV_app, Nat.mul_comm, Nat.add_comm]
/-- marks, 0 beyond the end -/
def mkz (b : Nat → Nat) (T : Nat) (τ : Tb) (q : Nat) : Nat → Nat → Nat → List Bool × Nat
  | 0, _, p => ([], p)
  | r + 1, k, p => if tF τ q k = 0 then (true :: (mkz b T τ q r (k + 1) p).1, (mkz b T τ q r (k + 1) p).2)
    else ((decide (p < T) && (btA b p == 1)) :: (mkz b T τ q r (k + 1) (p + 1)).1, (mkz b T τ q r (k + 1) (p + 1)).2)
theorem mkz_le (b : Nat → Nat) (T : Nat) (τ : Tb) (q : Nat) : ∀ r k p, p ≤ (mkz b T τ q r k p).2 ∧ (mkz b T τ q r k p).2 ≤ p + r ∧ (mkz b T τ q r k p).1.length = r := by
  intro r
  induction r with
  | zero => intro k p; exact ⟨Nat.le_refl _, Nat.le_refl _, rfl⟩
  | succ r ih =>
    intro k p
    rw [mkz]
    split
    · have := ih (k + 1) p; simp only [List.length_cons]; omega
    · have := ih (k + 1) (p + 1); simp only [List.length_cons]; omega
theorem mks_mkz (b : Nat → Nat) (T : Nat) (τ : Tb) (q : Nat) : ∀ r k p, p ≤ T → mks b T τ q r k p = if (mkz b T τ q r k p).2 ≤ T then some (mkz b T τ q r k p) else none := by
  intro r
  induction r with
  | zero => intro k p hp; exact (if_pos hp).symm
  | succ r ih =>
    intro k p hp
    rw [mks, mkz]
    by_cases c : tF τ q k = 0
    · rw [if_pos c, if_pos c, ih _ _ hp]
      by_cases c1 : (mkz b T τ q r (k + 1) p).2 ≤ T
      · rw [if_pos c1]; exact (if_pos c1).symm
      · rw [if_neg c1]; exact (if_neg c1).symm
    · rw [if_neg c, if_neg c]
      by_cases c2 : p + 1 ≤ T
      · rw [if_pos c2, ih _ _ c2, decide_eq_true (show p < T by omega), Bool.true_and]
        by_cases c1 : (mkz b T τ q r (k + 1) (p + 1)).2 ≤ T
        · rw [if_pos c1]; exact (if_pos c1).symm
        · rw [if_neg c1]; exact (if_neg c1).symm
      · rw [if_neg c2]
        have := mkz_le b T τ q r (k + 1) (p + 1)
        exact (if_neg (show ¬ (mkz b T τ q r (k + 1) (p + 1)).2 ≤ T by omega)).symm
section Us
variable {sb f n F dd d j : Nat} {b : Nat → Nat} {τ : Tb}
theorem CSq.st {h : Hp} {nm t g x : Nat} {v : Int32} (hg : ¬ g ∈ tyI) (c : CSq h τ j nm t) : CSq (sI h g x v) τ j nm t := by
  obtain ⟨s0, s1, s2, s3, s4, s6, s5⟩ := c
  refine ⟨s0, s1, s2, s3, ?_, s6, fun k hk => ?_⟩
  · rw [gI_sI, if_neg (fun w => hg (by rw [← w.1]; decide))]; exact s4
  · obtain ⟨f1, f2, f3, c, c7, c8, wk⟩ := s5 k hk
    exact ⟨f1, f2, f3, c, c7, c8.fr (sameTy_sI hg), wk⟩
theorem sqm_lp {q nm : Nat} {R : Nat → Nat → Hp → Option (Option Nat × Hp)} (h6 : tN τ q ≤ 6) (hF : 1000 ≤ F) :
    ∀ (r k nf : Nat) (h : Hp) (p : Nat) (L : List Bool), L.length = k → k + r = tN τ q → SrcP h sb → Buf h f n b → BtA h f n p → CSq h τ j nm q → p < 90000 - r → r < nf →
    fX11_unpack_4 F dd R nf nm 300 (zI ↑(thV L)) (zI k) h = fX11_unpack_4 F dd R 1 nm 300 (zI ↑(thV (L ++ (mkz b (8 * n) τ q r k p).1))) (zI ↑(tN τ q)) (sI h 403 300 (zI ↑(8 * f + (mkz b (8 * n) τ q r k p).2))) := by
  intro r
  induction r with
  | zero =>
    intro k nf h p L hL hk P B A S hp hn
    cases nf with
    | zero => omega
    | succ nf =>
      have : k = tN τ q := by omega
      subst this
      have e : mkz b (8 * n) τ q 0 (tN τ q) p = ([], p) := rfl
      rw [e, List.append_nil, sI_id A.1]
      unfold fX11_unpack_4
      rw [S.2.2.2.2.1, if_pos (Int32.le_refl _), if_pos (Int32.le_refl _)]
  | succ r ih =>
    intro k nf h p L hL hk P B A S hp hn
    cases nf with
    | zero => omega
    | succ nf =>
      have S0 := S
      obtain ⟨s0, s1, s2, s3, s4, s6, s5⟩ := S
      obtain ⟨f1, f2, -⟩ := s5 k (by omega)
      have n2 : nd_Ln (nm + 2) = 6 := nd_Kd_Ln (by omega)
      rw [fX11_unpack_4, s4, if_neg (show ¬ zI ↑(tN τ q) ≤ zI ↑k from fun z => by rw [zn_le (by omega) (by omega)] at z; omega), s2, nn_s, n2, zn_inb (show k < 6 by omega) (by omega), ck_t, zn_cl (by omega), f1]
      unfold fX11_unpack_31
      by_cases c : tF τ q k = 0
      · have em : mkz b (8 * n) τ q (r + 1) k p = (true :: (mkz b (8 * n) τ q r (k + 1) p).1, (mkz b (8 * n) τ q r (k + 1) p).2) := by rw [mkz, if_pos c]
        rw [if_pos (show zI ↑(tF τ q k) = 0 by rw [c]; rfl), bn_d, bn_d, zn_succ]
        have e1 := thV_or true L (by omega)
        rw [hL] at e1
        rw [show (1 : Int32) = zI ↑(true.toNat) from rfl, e1, ih (k + 1) nf h p (L ++ [true]) (by simp [hL]) (by omega) P B A S0 (by omega) (by omega), em]
        simp only [List.append_assoc, List.cons_append, List.nil_append]
      · have em : mkz b (8 * n) τ q (r + 1) k p = ((decide (p < 8 * n) && (btA b p == 1)) :: (mkz b (8 * n) τ q r (k + 1) (p + 1)).1, (mkz b (8 * n) τ q r (k + 1) (p + 1)).2) := by rw [mkz, if_neg c]
        rw [if_neg (zn_ne 0 (v := 0) c rfl (by omega) (by omega)), show (1 : Int32) = zI ↑(1 : Nat) from rfl, take_ok P B A (by omega) (by omega) hF, ca_s, bn_d, bn_d, zn_add]
        have ex : tkz b (8 * n) p 1 = (decide (p < 8 * n) && (btA b p == 1)).toNat := by
          show 2 * 0 + (if p + 0 < 8 * n then btA b (p + 0) else 0) = _
          rw [Nat.add_zero]
          have := btA_lt b p
          by_cases c2 : p < 8 * n
          · rw [if_pos c2, decide_eq_true c2, Bool.true_and]
            have h2 : btA b p = 0 ∨ btA b p = 1 := by omega
            rcases h2 with h2 | h2 <;> rw [h2] <;> rfl
          · rw [if_neg c2, decide_eq_false c2]; rfl
        have e1 := thV_or (decide (p < 8 * n) && (btA b p == 1)) L (by omega)
        rw [hL] at e1
        rw [ex, e1, ih (k + 1) nf (sI h 403 300 (zI ↑(8 * f + (p + 1)))) (p + 1) (L ++ [decide (p < 8 * n) && (btA b p == 1)]) (by simp [hL]) (by omega) P B (A.st (p + 1)) (S0.st (by decide)) (by omega) (by omega), em, sI_sI]
        simp only [List.append_assoc, List.cons_append, List.nil_append]
theorem usq_loop {h0 : Hp} {m0 u0 nm q : Nat} {L : List Bool} {R : Nat → Nat → Hp → Option (Option Nat × Hp)} (RO : UnOK F τ b f n R j d) (c : CTy h0 τ (j + 1) nm q) (w : WFt τ (j + 1) q) (k6 : tK τ q = 6) (hj : j ≤ dd) (hj2 : j ≤ 200) (hjd : j ≤ d) (hF : 1000 ≤ F) (hL : L.length = tN τ q) :
    ∀ (r k nf : Nat) (h : Hp) (p : Nat) (l : List (Nat × Vt d)), UL h0 h sb f n b τ 6 (zI ↑l.length) m0 u0 p l → k + r = tN τ q → r + 1 < nf →
    ∃ rr h', fX11_unpack_66 F dd R nf nm 300 (zI ↑(thV L)) (some (sb + 10 + m0)) (zI k) h = some (rr, h') ∧ UP h0 h' sb f n m0 u0 τ rr (fnU q l (upS τ (up b (8 * n) τ true d) (dfl τ d) q (L.drop k) k p (m0 + 1 + szs l))) := by
  have w3 := w.seq k6
  have nof : ∀ (nf : Nat) (hh : Hp) (y x : Int32), 0 < nf → fX11_unpack_66 F dd R nf nm 300 x none y hh = some (none, hh) := by
    intro nf hh y x hn
    obtain ⟨F', rfl⟩ : ∃ F', nf = F' + 1 := ⟨nf - 1, by omega⟩
    rw [fX11_unpack_66]
    split <;> rfl
  intro r
  induction r with
  | zero =>
    intro k nf h p l L1 hk hn
    cases nf with
    | zero => omega
    | succ nf =>
      have S := CSq.of (c.fr L1.2.2) w k6
      rw [fX11_unpack_66, S.2.2.2.2.1, if_pos ((zn_le (by omega) (by omega)).mpr (by omega)), List.drop_eq_nil_of_le (by omega), upS]
      exact ⟨_, h, rfl, L1.fin (by rw [k6]; rfl)⟩
  | succ r ih =>
    intro k nf h p l L1 hk hn
    cases nf with
    | zero => omega
    | succ nf =>
      have L0 := L1
      obtain ⟨G, U, st⟩ := L1
      have U0 := U
      obtain ⟨hx0, P, B, s, A, h3, h4, l1, l2, l4⟩ := U
      have S := CSq.of (c.fr st) w k6
      obtain ⟨s0, s1, s2, s3, s4, s6, s5⟩ := S
      obtain ⟨f1, f2, f3, cc, c7, c8, wk⟩ := s5 k (by omega)
      obtain ⟨wF, wD, -⟩ := w3.2 k (by omega)
      have n1 : nd_Ln (nm + 1) = 6 := nd_Kd_Ln (by omega)
      have n2 : nd_Ln (nm + 2) = 6 := nd_Kd_Ln (by omega)
      have n3 : nd_Ln (nm + 3) = 6 := nd_Kd_Ln (by omega)
      have ib : inb (zI ↑k) 6 = true := zn_inb (show k < 6 by omega) (by omega)
      have kc : (zI ↑k).toNatClampNeg = k := zn_cl (by omega)
      have hk2 : k < L.length := by omega
      have lt := thV_lt L
      have lt2 : 2 ^ L.length ≤ 2 ^ 6 := Nat.pow_le_pow_right (by decide) (by omega)
      rw [fX11_unpack_66, s4, if_neg (show ¬ zI ↑(tN τ q) ≤ zI ↑k from fun z => by rw [zn_le (by omega) (by omega)] at z; omega), oc_s, List.drop_eq_getElem_cons hk2, upS]
      have tb : (((zI ↑(thV L) >>> (zI ↑k &&& 31)) &&& 1) = 1) ↔ L[k] = true := by
        rw [tst_bit (by omega) (by omega), thV_bit, List.getD_eq_getElem?_getD, List.getElem?_eq_getElem hk2]; rfl
      by_cases ct : L[k] = true
      · rw [if_pos (tb.mpr ct), if_pos ct]
        unfold fX11_unpack_94
        rw [if_neg (show ¬ (1 : Int32) = 0 by decide), s1, nn_s, n1, ib, ck_t, bn_d, kc, c7, nn_s]
        obtain ⟨r1, h1, e2, p2⟩ := RO.2 h cc (tC τ q k) sb p (m0 + 1 + szs l) (u0 + ozs l) c8 wk U0
        obtain ⟨x1, ef1⟩ := RO.1 _ _ _ _ hx0 e2
        rw [e2, ca_s]
        unfold fX11_unpack_120 fX11_unpack_134
        rw [(P.fr ef1 (by decide)).2.2.1, nn_s]
        unfold fX11_add fX11_add_40
        rw [if_neg (show ¬ (1 : Int32) = 0 by decide)]
        cases hr1 : up b (8 * n) τ true d (tC τ q k) p (m0 + 1 + szs l) with
        | none =>
          rw [hr1] at p2
          rw [p2.2, oc_n, if_neg (show ¬ (1 : Int32) = 0 by decide), ca_s, if_pos rfl, bn_d, nof _ _ _ _ (by omega)]
          exact ⟨_, h1, rfl, UPn p2.1 rfl⟩
        | some z =>
          obtain ⟨v, a1⟩ := z
          rw [hr1] at p2
          have le := up_le _ _ _ _ _ _ l2 hr1
          obtain ⟨u1, h2, e4, u2, L4⟩ := L0.kid (F := F) (dd := dd) x1 ef1 (by decide) (by decide) (by decide) p2.2.2.2 p2.2.2.1 le k
          rw [p2.2.1, oc_s, e4, cv_s, bn_d, u2, zn_succ, ca_s, if_neg (show ¬ (1 : Int32) = 0 by decide), bn_d, zn_succ]
          have e5 : (l ++ [(k, v)]).length = l.length + 1 := by simp
          have e6 : szs (l ++ [(k, v)]) = szs l + sz d v := by rw [szs_app, szs_cons, szs_nil, Nat.add_zero]
          obtain ⟨rr, h3', e7, p7⟩ := ih (k + 1) nf _ a1 (l ++ [(k, v)]) (by rw [e5]; exact L4 _) (by omega) (by omega)
          refine ⟨rr, h3', e7, ?_⟩
          rw [e6, ← Nat.add_assoc, ← fnU_c] at p7
          exact p7
      · rw [if_neg (fun z => ct (tb.mp z)), if_neg ct]
        unfold fX11_unpack_94 fX11_unpack_120 fX11_unpack_134
        rw [if_pos rfl, P.2.2.1, nn_s]
        unfold fX11_add
        rw [if_pos rfl, s2, nn_s, n2, ib, ck_t, kc, f1]
        by_cases g2 : tF τ q k = 2
        · rw [g2, if_pos (show zI ↑(2 : Nat) = 2 from rfl), s1, nn_s, n1, ib, ck_t, bn_d, s3, nn_s, n3, ib, ck_t, c7, nn_s, if_neg (show ¬ 2 = 0 by omega), if_pos rfl]
          obtain ⟨d1, e2⟩ := giv_df (F := F) (sb := sb) (x := tD τ q k) c8 wk hj hj2 (wD g2).k
          rw [f3 g2, e2]
          by_cases hm : m0 + 1 + szs l < 100
          · rw [if_pos hm]
            cases d with
            | zero =>
              cases j with
              | zero => exact c8.elim
              | succ j => omega
            | succ d =>
              obtain ⟨h1, e3, G1, ef1⟩ := GS.mk0 (F := F) (dd := d1) (τ := τ) (kd := zI (tK τ (bas τ 200 (tC τ q k)))) (num := tD τ q k) s hx0 h3 h4 hm d
              rw [e3, ca_s]
              unfold fX11_add_40
              have K := G1.fin (q := bas τ 200 (tC τ q k)) rfl
              have le : p + 8 * oz (d + 1) (dfl τ (d + 1) (tC τ q k) (tD τ q k)) ≤ p ∧ p ≤ 8 * n ∧ okM (d + 1) (m0 + 1 + szs l) (dfl τ (d + 1) (tC τ q k) (tD τ q k)) := by
                have := dfl_sz (τ := τ) d (tC τ q k) (tD τ q k)
                unfold okM
                omega
              obtain ⟨u1, h2, e4, u2, L4⟩ := L0.kid (F := F) (dd := dd) G1.1.1 ef1 (by decide) (by decide) (by decide) (v := dfl τ (d + 1) (tC τ q k) (tD τ q k)) K (A.fr P.1.1 ef1 (by decide)) le k
              rw [oc_s, e4, cv_s, bn_d, u2, zn_succ, ca_s, if_neg (show ¬ (1 : Int32) = 0 by decide), bn_d, zn_succ]
              have e5 : (l ++ [(k, dfl τ (d + 1) (tC τ q k) (tD τ q k))]).length = l.length + 1 := by simp
              have e6 : szs (l ++ [(k, dfl τ (d + 1) (tC τ q k) (tD τ q k))]) = szs l + 1 := by rw [szs_app, szs_cons, szs_nil, (dfl_sz d _ _).1]
              obtain ⟨rr, h3', e7, p7⟩ := ih (k + 1) nf _ p (l ++ [(k, dfl τ (d + 1) (tC τ q k) (tD τ q k))]) (by rw [e5]; exact L4 _) (by omega) (by omega)
              refine ⟨rr, h3', e7, ?_⟩
              rw [e6, ← Nat.add_assoc, ← fnU_c] at p7
              exact p7
          · rw [if_neg hm, make_no h3 (by omega) (by omega), ca_s]
            unfold fX11_add_40
            rw [oc_n, if_pos rfl, s2, nn_s, n2, ib, ck_t, kc, f1, g2, if_neg (show ¬ zI ↑(2 : Nat) = 1 by decide), ca_s, if_pos rfl, bn_d, nof _ _ _ _ (by omega)]
            exact ⟨_, h, rfl, UPn s rfl⟩
        · rw [if_neg (show ¬ zI ↑(tF τ q k) = 2 from zn_ne 2 g2 rfl (by omega) (by omega))]
          unfold fX11_add_40
          rw [oc_n, if_pos rfl, s2, nn_s, n2, ib, ck_t, kc, f1]
          by_cases g0 : tF τ q k = 0
          · rw [g0, if_neg (show ¬ zI ↑(0 : Nat) = 1 by decide), ca_s, if_pos rfl, bn_d, nof _ _ _ _ (by omega), if_pos rfl]
            exact ⟨_, h, rfl, UPn s rfl⟩
          · have g1 : tF τ q k = 1 := by omega
            rw [g1, if_pos (show zI ↑(1 : Nat) = 1 from rfl), ca_s, if_neg (show ¬ (1 : Int32) = 0 by decide), bn_d, zn_succ, if_neg (show ¬ 1 = 0 by omega), if_neg (show ¬ 1 = 2 by omega)]
            exact ih (k + 1) nf h p l L0 (by omega) (by omega)
theorem seq_un {h : Hp} {p m u nm q : Nat} {R : Nat → Nat → Hp → Option (Option Nat × Hp)} (RO : UnOK F τ b f n R j d) (c : CTy h τ (j + 1) nm q) (w : WFt τ (j + 1) q) (k6 : tK τ q = 6) (hj : j ≤ dd) (hj2 : j ≤ 200) (hjd : j ≤ d) (S : US h sb f n b p m u) (hF : 1000 ≤ F) :
    ∃ r h', fX11_unpack F dd R nm 300 h = some (r, h') ∧ UP h h' sb f n m u τ r (if m < 100 then (match mks b (8 * n) τ q (tN τ q) 0 p with
         | none => none
         | some (l, p1) => match upS τ (up b (8 * n) τ true d) (dfl τ d) q l 0 p1 (m + 1) with
           | none => none
           | some (ks, p2) => some ((mkV q (Int32.ofNat ks.length) [] ks : Vt (d + 1)), p2)) else none) := by
  have S0 := S
  obtain ⟨hx, P, B, s, A, h3, h4, l1, l2, l4⟩ := S
  have hb := B.1
  have w3 := w.seq k6
  have C := CSq.of c w k6
  have ml := mkz_le b (8 * n) τ q (tN τ q) 0 p
  unfold fX11_unpack
  have E := sqm_lp (F := F) (dd := dd) (R := R) w3.1 hF (tN τ q) 0 F h p [] rfl (by omega) P B A C (by omega) (by omega)
  rw [show (0 : Int32) = zI ↑(thV []) from rfl] 
  have E2 : fX11_unpack_4 F dd R F nm 300 (zI ↑(thV [])) (zI ↑(thV [])) h = _ := E
  rw [E2, List.nil_append, mks_mkz _ _ _ _ _ _ _ l2]
  generalize hM : mkz b (8 * n) τ q (tN τ q) 0 p = M at *
  obtain ⟨M1, M2⟩ := M
  dsimp only at *
  have nof : ∀ (hh : Hp) (x : Int32), fX11_unpack_62 F dd R nm 300 x none hh = some (none, hh) := by
    intro hh x
    unfold fX11_unpack_62
    obtain ⟨F', rfl⟩ : ∃ F', F = F' + 1 := ⟨F - 1, by omega⟩
    rw [fX11_unpack_66]
    split <;> rfl
  have c5 : gI (sI h 403 300 (zI ↑(8 * f + M2))) 1001 nm = zI ↑(tN τ q) := (C.st (g := 403) (x := 300) (v := zI ↑(8 * f + M2)) (by decide)).2.2.2.2.1
  rw [fX11_unpack_4, c5, if_pos (Int32.le_refl _), thr_ok (h := sI h 403 300 (zI ↑(8 * f + M2))) (A.st _) hb (by omega), ca_s]
  by_cases c1 : M2 ≤ 8 * n
  · rw [decide_eq_true c1, if_neg (show ¬ b2i true = 0 by decide), if_pos c1, gP_sI, P.2.2.1, nn_s]
    have S1 := S0.at (x := M2) (by omega) c1
    by_cases hm : m < 100
    · obtain ⟨h2, e2, L⟩ := UL.ini (F := F) (dd := dd) (τ := τ) (kd := 6) S1 hm d
      rw [e2, ca_s, if_pos hm]
      unfold fX11_unpack_62
      obtain ⟨rr, h3', e3, q3⟩ := usq_loop (F := F) (dd := dd) RO (c.fr (sameTy_sI (by decide))) w k6 hj hj2 hjd hF ml.2.2 (tN τ q) 0 F h2 M2 [] L (by omega) (by omega)
      refine ⟨rr, h3', e3, ?_⟩
      rw [szs_nil, List.drop_zero] at q3
      have q4 : UP h h3' sb f n m u τ rr (fnU q [] (upS τ (up b (8 * n) τ true d) (dfl τ d) q M1 0 M2 (m + 1))) := q3.at
      dsimp only
      cases hz : upS τ (up b (8 * n) τ true d) (dfl τ d) q M1 0 M2 (m + 1) with
      | none => rw [hz] at q4; exact q4
      | some z =>
        obtain ⟨ks, p3⟩ := z
        rw [hz] at q4
        simp only [fnU, List.length_nil, Nat.zero_add, List.nil_append] at q4
        exact q4
    · rw [make_no (by rw [gI_sI, if_neg (by omega)]; exact h3) (by omega) (by omega), ca_s, nof, if_neg hm]
      exact ⟨_, _, rfl, UPn s rfl⟩
  · rw [decide_eq_false c1, if_pos (show b2i false = 0 from rfl), nof, if_neg c1]
    exact ⟨_, _, rfl, UPn s (by split <;> rfl)⟩
theorem up_tag {T : Nat} {st : Bool} {j t d : Nat} (w : WFt τ (j + 1) t) (k : tK τ t = 10) (hj : j < 200) (p m : Nat) : up b T τ st (d + 1) t p m = up b T τ st (d + 1) (tC τ t 0) p m := by
  rw [up, up, bas_tag w k hj]
/-- the class unpacks as the spec says -/
theorem unpack_ok (hF : 1000 ≤ F) : ∀ (j d dd : Nat), j ≤ d → j ≤ dd → j < 200 → UnOK F τ b f n (v_unpack F dd) j d := by
  intro j
  induction j with
  | zero => intro d dd _ _ _; exact ⟨fun nm p h r hx e => ev_unpack F dd hx e, fun h nm t sb p m u c => c.elim⟩
  | succ j ih =>
    intro d dd hd hdd hj
    refine ⟨fun nm p h r hx e => ev_unpack F dd hx e, fun h nm t sb p m u c w S => ?_⟩
    cases d with
    | zero => omega
    | succ d =>
    cases dd with
    | zero => omega
    | succ dd =>
      unfold v_unpack
      have IH := ih d dd (by omega) (by omega) (by omega)
      have IH1 := ih (d + 1) dd (by omega) (by omega) (by omega)
      rcases c.2 with ⟨k, c1⟩ | ⟨k, c1⟩ | ⟨k, c1⟩ | ⟨k, c1, c2, c3, c4⟩ | ⟨k, c1, -⟩ | ⟨k, c1, -⟩ | ⟨k, c1, -⟩ | ⟨k, c1, c2, c3, x, c4, c5⟩
      · rw [if_pos c1.1, up, bas_ne (by omega)]
        obtain ⟨r, h', e1, q1⟩ := ub_ok (F := F) (d := dd) (τ := τ) (q := t) (L := 0) (N := 1) S c1 (by omega) (by omega) (by omega) (by rw [k]; rfl) hF d
        refine ⟨r, h', e1, ?_⟩
        rw [if_neg (show ¬ tK τ t = 9 by omega), if_neg (show ¬ tK τ t = 6 by omega), if_neg (show ¬ tK τ t = 7 by omega), if_neg (show ¬ tK τ t = 4 by omega), if_neg (show ¬ tK τ t = 5 by omega), if_pos k]
        have e2 : rng b (8 * n) 1 p = tk b (8 * n) p 1 := by
          rw [rng_eq]
          unfold tk
          show (if p + 1 ≤ 8 * n ∧ tkv b p 1 ≤ 1 then some (tkv b p 1, p + 1) else none) = _
          have := tkv_lt b p 1
          by_cases z : p + 1 ≤ 8 * n
          · rw [if_pos z, if_pos ⟨z, by omega⟩]
          · rw [if_neg z, if_neg (fun y => z y.1)]
        rw [e2] at q1
        cases hz : tk b (8 * n) p 1 with
        | none => rw [hz] at q1; exact q1
        | some z =>
          rw [hz] at q1
          simp only [show ∀ y : Int32, zI 0 + y = y from fun y => Int32.zero_add y] at q1
          exact q1
      · rw [if_pos c1.1, up, bas_ne (by omega)]
        obtain ⟨r, h', e1, q1⟩ := ub_ok (F := F) (d := dd) (τ := τ) (q := t) (L := 0) (N := 0) S c1 (by omega) (by omega) (by omega) (by rw [k]; rfl) hF d
        refine ⟨r, h', e1, ?_⟩
        rw [if_neg (show ¬ tK τ t = 9 by omega), if_neg (show ¬ tK τ t = 6 by omega), if_neg (show ¬ tK τ t = 7 by omega), if_neg (show ¬ tK τ t = 4 by omega), if_pos k]
        have e2 : rng b (8 * n) 0 p = some (0, p) := by
          rw [rng_eq]
          have z1 : rgp 0 p = p := rfl
          have z2 : rwd 0 = 0 := rfl
          have z3 : tkv b p 0 = 0 := rfl
          rw [z1, z2, z3, if_pos ⟨S.2.2.2.2.2.2.2.2.1, Nat.le_refl _⟩]; rfl
        rw [e2] at q1
        exact q1
      · rw [if_pos c1.1, up, bas_ne (by omega), if_neg (show ¬ tK τ t = 9 by omega), if_neg (show ¬ tK τ t = 6 by omega), if_neg (show ¬ tK τ t = 7 by omega), if_neg (show ¬ tK τ t = 4 by omega), if_neg (show ¬ tK τ t = 5 by omega), if_neg (show ¬ tK τ t = 1 by omega)]
        have ok : okI τ t := by
          rcases w with ⟨k2, -⟩ | ⟨k2, -, w1⟩ | ⟨k2, -⟩ | ⟨k2, -⟩ | ⟨k2, -⟩ | ⟨k2, -⟩ | ⟨k2, -⟩ | ⟨k2, -⟩ <;> first | (exfalso; omega) | exact w1
        cases hB : tB τ t with
        | true =>
          obtain ⟨lo, N, k1, k2, k3, k4, k5⟩ := ok hB
          rw [hB, k1, k2] at c1
          obtain ⟨r, h', e1, q1⟩ := ub_ok (F := F) (d := dd) (τ := τ) (q := t) S c1 k3 k4 k5 (by rw [k]; rfl) hF d
          refine ⟨r, h', e1, ?_⟩
          have hs : spn τ t = N := by unfold spn; rw [k1, k2, zI_sub, show lo + ↑N - lo = (N : Int) by omega, zn_cl (by omega)]
          rw [if_pos rfl]
          unfold rngI
          rw [hs, k1]
          cases hz : rng b (8 * n) N p with
          | none => rw [hz] at q1; exact q1
          | some z => rw [hz] at q1; exact q1
        | false =>
          rw [hB] at c1
          rw [if_neg (show ¬ (false = true) by decide)]
          exact ui_ok S c1 (by rw [k]; rfl) hF d
      · have ok : okS τ t := by
          rcases w with ⟨k2, -⟩ | ⟨k2, -⟩ | ⟨k2, -, w1⟩ | ⟨k2, -⟩ | ⟨k2, -⟩ | ⟨k2, -⟩ | ⟨k2, -⟩ | ⟨k2, -⟩ <;> first | (exfalso; omega) | exact w1
        rw [if_neg (by omega), if_neg (by omega), if_neg (by omega), if_pos c1, up, bas_ne (by omega), if_neg (show ¬ tK τ t = 9 by omega), if_neg (show ¬ tK τ t = 6 by omega), if_neg (show ¬ tK τ t = 7 by omega), if_pos k]
        exact ou_ok S k c3 c4 ok hF d
      · rw [if_neg (by omega), if_pos c1, up, bas_ne (by omega), if_neg (show ¬ tK τ t = 9 by omega), if_pos k]
        exact seq_un IH c w k (by omega) (by omega) (by omega) S hF
      · rw [if_neg (by omega), if_neg (by omega), if_neg (by omega), if_neg (by omega), if_pos c1, up, bas_ne (by omega), if_neg (show ¬ tK τ t = 9 by omega), if_neg (show ¬ tK τ t = 6 by omega), if_pos k]
        exact ser_un IH c w k S hF
      · rw [if_neg (by omega), if_neg (by omega), if_pos c1, up, bas_ne (by omega), if_pos k]
        exact cho_un IH c w k (by omega) S hF
      · rw [if_neg (by omega), if_neg (by omega), if_neg (by omega), if_neg (by omega), if_neg (by omega), if_pos c1, up_tag w k (by omega)]
        unfold fX16_unpack
        rw [c4, nn_s, ca_id]
        exact IH1.2 h x (tC τ t 0) sb p m u c5 (w.tag k).2 S
end Us
