/-! THE CLASS UNPACKS (5): lists, choices, sequences -/
set_option maxRecDepth 100000
section Uh
variable {sb f n F dd d j : Nat} {b : Nat → Nat} {τ : Tb}
def fnU (q : Nat) {d : Nat} (l : List (Nat × Vt d)) (x : Option (List (Nat × Vt d) × Nat)) : Option (Vt (d + 1) × Nat) := match x with
  | none => none
  | some (ks, p2) => some (mkV q (Int32.ofNat (l.length + ks.length)) [] (l ++ ks), p2)
theorem fnU_c {q k : Nat} {l : List (Nat × Vt d)} {v : Vt d} (x : Option (List (Nat × Vt d) × Nat)) : fnU q l (match x with | none => none | some (l', a2) => some ((k, v) :: l', a2)) = fnU q (l ++ [(k, v)]) x := by
  cases x with
  | none => rfl
  | some z =>
    obtain ⟨ks, a2⟩ := z
    have e1 : l.length + ((k, v) :: ks).length = (l ++ [(k, v)]).length + ks.length := by simp; omega
    have e2 : l ++ (k, v) :: ks = l ++ [(k, v)] ++ ks := by simp
    show some (mkV q (Int32.ofNat (l.length + ((k, v) :: ks).length)) [] (l ++ (k, v) :: ks), a2) = some (mkV q (Int32.ofNat ((l ++ [(k, v)]).length + ks.length)) [] (l ++ [(k, v)] ++ ks), a2)
    rw [e1, e2]
theorem UL.fin {h0 h : Hp} {m0 u0 p q : Nat} {kd : Int32} {l : List (Nat × Vt d)} (L : UL h0 h sb f n b τ kd (zI ↑l.length) m0 u0 p l) (hk : kd = zI (tK τ q)) : UP h0 h sb f n m0 u0 τ (some (sb + 10 + m0)) (some (mkV q (Int32.ofNat (l.length + 0)) [] (l ++ []), p)) := by
  show UP h0 h sb f n m0 u0 τ (some (sb + 10 + m0)) (some ((mkV q (Int32.ofNat l.length) [] (l ++ []) : Vt (d + 1)), p))
  rw [List.append_nil, zI_nat]
  exact ⟨L.1.1.2, rfl, L.2.1.2.2.2.2.1, L.1.fin hk⟩
/-- the items of a list -/
theorem uls_loop {h0 : Hp} {m0 u0 nm q N : Nat} {R : Nat → Nat → Hp → Option (Option Nat × Hp)} (RO : UnOK F τ b f n R j d) (c : CTy h0 τ (j + 1) nm q) (w : WFt τ (j + 1) q) (k : tK τ q = 7) (hN : N ≤ 127) :
    ∀ (r nf : Nat) (h : Hp) (p : Nat) (l : List (Nat × Vt d)), UL h0 h sb f n b τ 7 (zI ↑l.length) m0 u0 p l → l.length + r = N → r < nf →
    ∃ rr h', fX15_unpack_45 F dd R nf nm 300 (zI N) (some (sb + 10 + m0)) (zI ↑l.length) h = some (rr, h') ∧ UP h0 h' sb f n m0 u0 τ rr (fnU q l (upL τ (up b (8 * n) τ true d) q r l.length p (m0 + 1 + szs l))) := by
  intro r
  induction r with
  | zero =>
    intro nf h p l L hr hn
    cases nf with
    | zero => omega
    | succ nf =>
      rw [fX15_unpack_45, if_pos ((zn_le (by omega) (by omega)).mpr (by omega)), upL]
      exact ⟨_, h, rfl, L.fin (by rw [k]; rfl)⟩
  | succ r ih =>
    intro nf h p l L hr hn
    cases nf with
    | zero => omega
    | succ nf =>
      have L0 := L
      obtain ⟨G, S, st⟩ := L
      obtain ⟨al, c1⟩ := c.fr st
      rcases c1 with ⟨k2, -⟩ | ⟨k2, -⟩ | ⟨k2, -⟩ | ⟨k2, -⟩ | ⟨k2, -⟩ | ⟨k2, c1, c2, c3, x, c4, c5⟩ | ⟨k2, -⟩ | ⟨k2, -⟩
      all_goals first | (exfalso; omega) | skip
      have w2 := (w.lst k).2
      rw [fX15_unpack_45, if_neg (show ¬ zI ↑N ≤ zI ↑l.length from fun z => by rw [zn_le (by omega) (by omega)] at z; omega), oc_s, bn_d, c4, nn_s]
      obtain ⟨r1, h1, e1, p1⟩ := RO.2 h x (tC τ q 0) sb p (m0 + 1 + szs l) (u0 + ozs l) c5 w2 S
      obtain ⟨x1, ef1⟩ := RO.1 _ _ _ _ S.1 e1
      rw [e1, ca_s, upL]
      unfold fX15_add
      cases hr1 : up b (8 * n) τ true d (tC τ q 0) p (m0 + 1 + szs l) with
      | none =>
        rw [hr1] at p1
        rw [p1.2, oc_n, ca_s, if_pos rfl]
        exact ⟨_, h1, rfl, UPn p1.1 rfl⟩
      | some z =>
        obtain ⟨v, a1⟩ := z
        rw [hr1] at p1
        have le := up_le _ _ _ _ _ _ S.2.2.2.2.2.2.2.2.1 hr1
        obtain ⟨u1, h2, e2, u2, L4⟩ := L0.kid (F := F) (dd := dd) x1 ef1 (by decide) (by decide) (by decide) p1.2.2.2 p1.2.2.1 le l.length
        rw [p1.2.1, oc_s, u1, e2, cv_s, bn_d, u2, zn_succ, ca_s, if_neg (show ¬ (1 : Int32) = 0 by decide), bn_d]
        have e3 : (l ++ [(l.length, v)]).length = l.length + 1 := by simp
        have e4 : szs (l ++ [(l.length, v)]) = szs l + sz d v := by rw [szs_app, szs_cons, szs_nil, Nat.add_zero]
        obtain ⟨rr, h3, e5, p5⟩ := ih nf _ a1 (l ++ [(l.length, v)]) (by rw [e3]; exact L4 _) (by rw [e3]; omega) (by omega)
        rw [e3] at e5
        refine ⟨rr, h3, e5, ?_⟩
        rw [e3, e4, ← Nat.add_assoc, ← fnU_c] at p5
        exact p5
theorem ser_un {h : Hp} {p m u nm q : Nat} {R : Nat → Nat → Hp → Option (Option Nat × Hp)} (RO : UnOK F τ b f n R j d) (c : CTy h τ (j + 1) nm q) (w : WFt τ (j + 1) q) (k : tK τ q = 7) (S : US h sb f n b p m u) (hF : 1000 ≤ F) :
    ∃ r h', fX15_unpack F dd R nm 300 h = some (r, h') ∧ UP h h' sb f n m u τ r (if m < 100 then (match cnt b (8 * n) τ q p with
         | none => none
         | some (x, p1) => match upL τ (up b (8 * n) τ true d) q x.toNatClampNeg 0 p1 (m + 1) with
           | none => none
           | some (ks, p2) => some ((mkV q (Int32.ofNat ks.length) [] ks : Vt (d + 1)), p2)) else none) := by
  have S0 := S
  obtain ⟨hx, P, B, s, A, h3, h4, l1, l2, l4⟩ := S
  have hb := B.1
  obtain ⟨al, c1⟩ := id c
  rcases c1 with ⟨k2, -⟩ | ⟨k2, -⟩ | ⟨k2, -⟩ | ⟨k2, -⟩ | ⟨k2, -⟩ | ⟨k2, c1, c2, c3, x, c4, c5⟩ | ⟨k2, -⟩ | ⟨k2, -⟩
  all_goals first | (exfalso; omega) | skip
  obtain ⟨x, p1, e1, g1, g2, g3⟩ := cnt_ok (F := F) (d := dd) S0 c3 (w.lst k).1 hF
  have nof : ∀ (hh : Hp) (y : Int32), fX15_unpack_41 F dd R nm 300 y none hh = some (none, hh) := by
    intro hh y
    unfold fX15_unpack_41
    obtain ⟨F', rfl⟩ : ∃ F', F = F' + 1 := ⟨F - 1, by omega⟩
    rw [fX15_unpack_45]
    split <;> rfl
  unfold fX15_unpack fX15_unpack_40
  rw [c2, nn_s, e1, ca_s, thr_ok (h := sI h 403 300 (zI ↑(8 * f + p1))) (A.st _) hb (by omega), ca_s]
  have c3' := c3.st3 (g := 403) (v := zI ↑(8 * f + p1)) (by omega)
  cases hc : cnt b (8 * n) τ q p with
  | none =>
    rw [hc] at g3
    by_cases z : p1 ≤ 8 * n
    · rw [decide_eq_true z, if_neg (show ¬ b2i true = 0 by decide), gP_sI, c2, nn_s, hol2 c3', ca_s, g3 z, if_pos (show b2i false = 0 from rfl), nof]
      exact ⟨_, _, rfl, UPn s (by split <;> rfl)⟩
    · rw [decide_eq_false z, if_pos (show b2i false = 0 from rfl), nof]
      exact ⟨_, _, rfl, UPn s (by split <;> rfl)⟩
  | some wz =>
    obtain ⟨y, p2⟩ := wz
    rw [hc] at g3
    obtain ⟨y1, y2, y3, y4, N, y5, y6, y7⟩ := g3
    subst y1 y2 y5
    rw [decide_eq_true y3, if_neg (show ¬ b2i true = 0 by decide), gP_sI, c2, nn_s, hol2 c3', ca_s, y4, if_neg (show ¬ b2i true = 0 by decide), gP_sI, P.2.2.1, nn_s]
    have S1 := S0.at (x := p2) (by omega) y3
    by_cases hm : m < 100
    · obtain ⟨h2, e2, L⟩ := UL.ini (F := F) (dd := dd) (τ := τ) (kd := 7) S1 hm d
      rw [e2, ca_s, if_pos hm]
      unfold fX15_unpack_41
      obtain ⟨rr, h3', e3, q3⟩ := uls_loop (F := F) (dd := dd) RO (c.fr (sameTy_sI (by decide))) w k y6 N F h2 p2 [] L (by simp) (by omega)
      refine ⟨rr, h3', e3, ?_⟩
      rw [szs_nil] at q3
      have q4 : UP h h3' sb f n m u τ rr (fnU q [] (upL τ (up b (8 * n) τ true d) q N 0 p2 (m + 1))) := q3.at
      show UP h h3' sb f n m u τ rr (match upL τ (up b (8 * n) τ true d) q (zI ↑N).toNatClampNeg 0 p2 (m + 1) with
           | none => none
           | some (ks, p2) => some ((mkV q (Int32.ofNat ks.length) [] ks : Vt (d + 1)), p2))
      rw [zn_cl (by omega)]
      cases hz : upL τ (up b (8 * n) τ true d) q N 0 p2 (m + 1) with
      | none => rw [hz] at q4; exact q4
      | some z =>
        obtain ⟨ks, p3⟩ := z
        rw [hz] at q4
        simp only [fnU, List.length_nil, Nat.zero_add, List.nil_append] at q4
        exact q4
    · rw [make_no (by rw [gI_sI, if_neg (by omega)]; exact h3) (by omega) (by omega), ca_s, nof, if_neg hm]
      exact ⟨_, _, rfl, UPn s rfl⟩
/-- an alternative -/
def cuX (b : Nat → Nat) (T : Nat) (τ : Tb) (d q m p k : Nat) : Option (Vt (d + 1) × Nat) := if m < 100 then (match up b T τ true d (tC τ q k) p (m + 1) with
  | none => none
  | some (v, p2) => some (mkV q (Int32.ofNat k) [] [(0, v)], p2)) else none
theorem rnk_lt (q k : Nat) (hk : k < tN τ q) : rnk τ q k < tN τ q := by
  unfold rnk
  have h1 := List.countP_le_length (p := fun i => decide (lsb τ (tC τ q i) < lsb τ (tC τ q k))) (l := List.range (tN τ q))
  rw [List.length_range] at h1
  rcases Nat.lt_or_ge ((List.range (tN τ q)).countP fun i => decide (lsb τ (tC τ q i) < lsb τ (tC τ q k))) (tN τ q) with z | z
  · exact z
  · exfalso
    have h2 : (List.range (tN τ q)).countP (fun i => decide (lsb τ (tC τ q i) < lsb τ (tC τ q k))) = (List.range (tN τ q)).length := by rw [List.length_range]; omega
    rw [List.countP_eq_length] at h2
    have := h2 k (List.mem_range.mpr hk)
    exact Int32.lt_irrefl (of_decide_eq_true this)
theorem cu_loop {h : Hp} {p m u nm q v : Nat} {R : Nat → Nat → Hp → Option (Option Nat × Hp)} (RO : UnOK F τ b f n R j d) (c : CTy h τ (j + 1) nm q) (w : WFt τ (j + 1) q) (k9 : tK τ q = 9) (hj : j ≤ dd) (hF : 1000 ≤ F) (S : US h sb f n b p m u) (hv : v < 100000) :
    ∀ (r k nf : Nat), k + r = tN τ q → r < nf → ∃ rr h', fX12_unpack_14 F dd R nf nm 300 (zI v) (zI k) h = some (rr, h') ∧ UP h h' sb f n m u τ rr (match rkF τ q v r k with | none => none | some k => cuX b (8 * n) τ d q m p k) := by
  have w3 := w.cho k9
  have c0 := c
  obtain ⟨al, c1⟩ := c
  rcases c1 with ⟨k2, -⟩ | ⟨k2, -⟩ | ⟨k2, -⟩ | ⟨k2, -⟩ | ⟨k2, -⟩ | ⟨k2, -⟩ | ⟨k2, c1, ⟨c2, c3⟩, c4, c5⟩ | ⟨k2, -⟩
  all_goals first | (exfalso; omega) | skip
  have S0 := S
  obtain ⟨hx0, P, B, s, A, h3, h4, l1, l2, l4⟩ := S
  have hb := B.1
  have ln6 : nd_Ln (nm + 1) = 6 := nd_Kd_Ln (by omega)
  intro r
  induction r with
  | zero =>
    intro k nf hk hn
    cases nf with
    | zero => omega
    | succ nf =>
      rw [fX12_unpack_14, c4, if_pos ((zn_le (by omega) (by omega)).mpr (by omega))]
      exact ⟨_, h, rfl, UPn s rfl⟩
  | succ r ih =>
    intro k nf hk hn
    cases nf with
    | zero => omega
    | succ nf =>
      obtain ⟨cc, c6, c7⟩ := c5 k (by omega)
      have wk := w3.2.2 k (by omega)
      have rl := rnk_lt (τ := τ) q k (by omega)
      rw [fX12_unpack_14, c4, if_neg (show ¬ zI ↑(tN τ q) ≤ zI ↑k from fun z => by rw [zn_le (by omega) (by omega)] at z; omega), thr_ok A hb (by omega), ca_s, decide_eq_true l2, if_neg (show ¬ b2i true = 0 by decide), rnk_ok c0 w k9 (by omega) hj hF, ca_s, rkF]
      by_cases ct : rnk τ q k = v
      · rw [if_pos (show zI ↑(rnk τ q k) = zI ↑v by rw [ct]), if_pos ct, P.2.2.1, nn_s]
        show ∃ rr h', _ ∧ UP h h' sb f n m u τ rr (cuX b (8 * n) τ d q m p k)
        by_cases hm : m < 100
        · obtain ⟨h1, e1, G, ef1⟩ := GS.mk0 (F := F) (dd := dd) (τ := τ) (kd := 9) (num := zI k) s hx0 h3 h4 hm d
          rw [e1, ca_s]
          have st := ef1.ty (S := S_X3_make) (by decide)
          have p2 := P.fr ef1 (by decide)
          have S1 : US h1 sb f n b p (m + 1) u := ⟨G.1.1, p2, B.fr P.1.2.2.2 ef1 (by decide), G.1.2, A.fr P.1.1 ef1 (by decide), G.2.1.1, G.2.1.2, l1, l2, by omega⟩
          rw [ef1.p 1000 al.1 (by decide), c2, nn_s, ln6, zn_inb (show k < 6 by omega) (by omega), ck_t, bn_d, zn_cl (by omega), st.2.2.2.2 _ _ (by omega) c3, c6, nn_s]
          obtain ⟨r1, h2, e2, q2⟩ := RO.2 h1 cc (tC τ q k) sb p (m + 1) u (c7.fr st) wk S1
          obtain ⟨x2, ef2⟩ := RO.1 _ _ _ _ G.1.1 e2
          rw [e2, ca_s]
          unfold fX12_with cuX
          rw [oc_s, if_pos hm]
          cases hr1 : up b (8 * n) τ true d (tC τ q k) p (m + 1) with
          | none =>
            rw [hr1] at q2
            rw [q2.2, oc_n, ca_s]
            exact ⟨_, h2, rfl, UPn q2.1 rfl⟩
          | some z =>
            obtain ⟨v1, a1⟩ := z
            rw [hr1] at q2
            obtain ⟨h4', e4, G4, ef4⟩ := G.kid (F := F) (dd := dd) x2 ef2.1 (v := v1) q2.2.2.2 0
            rw [q2.2.1, oc_s]
            rw [szs_nil, Nat.add_zero] at e4
            rw [show (0 : Int32) = zI ↑(0 : Nat) from rfl, e4, cv_s, ca_s]
            refine ⟨_, h4', rfl, G4.1.2, rfl, (q2.2.2.1).fr (p2.fr ef2 (by decide)).1.1 ef4 (by decide), ?_⟩
            rw [zI_nat]
            exact G4.fin (by rw [k9]; rfl)
        · rw [make_no h3 (by omega) (by omega), ca_s, c2, nn_s, ln6, zn_inb (show k < 6 by omega) (by omega), ck_t, bn_d, zn_cl (by omega), c6, nn_s]
          obtain ⟨r1, h2, e2, q2⟩ := RO.2 h cc (tC τ q k) sb p m u c7 wk S0
          rw [e2, ca_s]
          unfold fX12_with cuX
          rw [oc_n, ca_s, if_neg hm]
          exact ⟨_, h2, rfl, UPn q2.1 rfl⟩
      · rw [if_neg (show ¬ zI ↑(rnk τ q k) = zI ↑v from fun z => ct ((zn_eq (by omega) (by omega)).mp z)), if_neg ct, bn_d, zn_succ]
        exact ih (k + 1) nf (by omega) (by omega)
theorem rkF_no {q v : Nat} (hv : tN τ q ≤ v) : ∀ (r k : Nat), k + r = tN τ q → rkF τ q v r k = none := by
  intro r
  induction r with
  | zero => intro k _; rfl
  | succ r ih =>
    intro k hk
    have := rnk_lt (τ := τ) q k (by omega)
    rw [rkF, if_neg (by omega)]
    exact ih _ (by omega)
theorem cho_un {h : Hp} {p m u nm q : Nat} {R : Nat → Nat → Hp → Option (Option Nat × Hp)} (RO : UnOK F τ b f n R j d) (c : CTy h τ (j + 1) nm q) (w : WFt τ (j + 1) q) (k9 : tK τ q = 9) (hj : j ≤ dd) (S : US h sb f n b p m u) (hF : 1000 ≤ F) :
    ∃ r h', fX12_unpack F dd R nm 300 h = some (r, h') ∧ UP h h' sb f n m u τ r (if m < 100 then (match rng b (8 * n) (tN τ q - 1) p with
         | none => none
         | some (r, p1) => match rkF τ q r (tN τ q) 0 with
           | none => none
           | some k => match up b (8 * n) τ true d (tC τ q k) p1 (m + 1) with
             | none => none
             | some (v, p2) => some ((mkV q (Int32.ofNat k) [] [(0, v)] : Vt (d + 1)), p2)) else none) := by
  have w3 := w.cho k9
  have S0 := S
  obtain ⟨hx, P, B, s, A, h3, h4, l1, l2, l4⟩ := S
  have hb := B.1
  have c4 : gI h 1001 nm = zI (tN τ q) := by
    rcases c.2 with ⟨k2, -⟩ | ⟨k2, -⟩ | ⟨k2, -⟩ | ⟨k2, -⟩ | ⟨k2, -⟩ | ⟨k2, -⟩ | ⟨k2, c1, ⟨c2, c3⟩, c4, c5⟩ | ⟨k2, -⟩ <;> first | (exfalso; omega) | exact c4
  have r1 := rgp_le (tN τ q - 1) p
  have r2 := rwd_16 (tN τ q - 1)
  unfold fX12_unpack
  rw [c4, zn_pred (by omega), tn_ok (N := tN τ q - 1) P B A (by rw [show (0 : Int32) = zI ↑(0 : Nat) from rfl, zn_sub (by omega)]; rfl) (by omega) (by omega) hF, ca_s, show ∀ x : Int32, 0 + x = x from fun x => Int32.zero_add x, rng_eq]
  by_cases c1 : rgp (tN τ q - 1) p + rwd (tN τ q - 1) ≤ 8 * n
  · rw [tkz_in b _ _ _ c1]
    have lt : tkv b (rgp (tN τ q - 1) p) (rwd (tN τ q - 1)) < 65536 := by
      have := tkv_lt b (rgp (tN τ q - 1) p) (rwd (tN τ q - 1))
      have h2 : 2 ^ rwd (tN τ q - 1) ≤ 2 ^ 16 := Nat.pow_le_pow_right (by decide) r2
      omega
    obtain ⟨rr, h', e1, q1⟩ := cu_loop (F := F) (dd := dd) RO (c.fr (sameTy_sI (v := zI ↑(8 * f + (rgp (tN τ q - 1) p + rwd (tN τ q - 1)))) (x := 300) (g := 403) (by decide))) w k9 hj hF (S0.at (x := rgp (tN τ q - 1) p + rwd (tN τ q - 1)) (by omega) c1) (v := tkv b (rgp (tN τ q - 1) p) (rwd (tN τ q - 1))) (by omega) (tN τ q) 0 F (by omega) (by omega)
    refine ⟨rr, h', e1, ?_⟩
    have q2 := q1.at
    by_cases c2 : tkv b (rgp (tN τ q - 1) p) (rwd (tN τ q - 1)) ≤ tN τ q - 1
    · rw [if_pos (show rgp (tN τ q - 1) p + rwd (tN τ q - 1) ≤ 8 * n ∧ tkv b (rgp (tN τ q - 1) p) (rwd (tN τ q - 1)) ≤ tN τ q - 1 from ⟨c1, c2⟩)]
      show UP h h' sb f n m u τ rr (if m < 100 then (match rkF τ q (tkv b (rgp (tN τ q - 1) p) (rwd (tN τ q - 1))) (tN τ q) 0 with
           | none => none
           | some k => match up b (8 * n) τ true d (tC τ q k) (rgp (tN τ q - 1) p + rwd (tN τ q - 1)) (m + 1) with
             | none => none
             | some (v, p2) => some ((mkV q (Int32.ofNat k) [] [(0, v)] : Vt (d + 1)), p2)) else none)
      cases hz : rkF τ q (tkv b (rgp (tN τ q - 1) p) (rwd (tN τ q - 1))) (tN τ q) 0 with
      | none => rw [hz] at q2; exact (by split <;> exact q2)
      | some k =>
        rw [hz] at q2
        unfold cuX at q2
        by_cases hm : m < 100
        · rw [if_pos hm]; simp only [if_pos hm] at q2; exact q2
        · rw [if_neg hm]; simp only [if_neg hm] at q2; exact q2
    · rw [rkF_no (by omega) _ _ (by omega)] at q2
      rw [if_neg (show ¬ (rgp (tN τ q - 1) p + rwd (tN τ q - 1) ≤ 8 * n ∧ tkv b (rgp (tN τ q - 1) p) (rwd (tN τ q - 1)) ≤ tN τ q - 1) from fun w => c2 w.2)]
      exact (by split <;> exact q2)
  · rw [if_neg (show ¬ (rgp (tN τ q - 1) p + rwd (tN τ q - 1) ≤ 8 * n ∧ tkv b (rgp (tN τ q - 1) p) (rwd (tN τ q - 1)) ≤ tN τ q - 1) from fun w => c1 w.1)]
    have A1 := A.st (rgp (tN τ q - 1) p + rwd (tN τ q - 1))
    have e0 : gI (sI h 403 300 (zI ↑(8 * f + (rgp (tN τ q - 1) p + rwd (tN τ q - 1))))) 1001 nm = zI ↑(tN τ q) := by rw [gI_sI, if_neg (by omega)]; exact c4
    obtain ⟨F', rfl⟩ : ∃ F', F = F' + 1 := ⟨F - 1, by omega⟩
    rw [fX12_unpack_14, e0, if_neg (show ¬ zI ↑(tN τ q) ≤ 0 from fun z => by have := (zn_le (b := 0) (by omega) (by omega)).mp z; omega), thr_ok A1 hb (by omega), ca_s, decide_eq_false c1, if_pos (show b2i false = 0 from rfl)]
    exact ⟨_, _, rfl, UPn s (by split <;> rfl)⟩
end Uh
