/-! THE CLASS READS (10): sequences, and all of it -/
set_option maxRecDepth 100000
section Rg5
variable {sb f n e e0 o F dd d j : Nat} {b : Nat → Nat} {τ : Tb}
theorem sq_loop {h0 : Hp} {m0 u0 nm q : Nat} {lo : Bool} {R : Nat → Nat → Int32 → Hp → Option (Option Nat × Hp)} (RO : RdOK F τ b f n R j d) (c : CTy h0 τ (j + 1) nm q) (w : WFt τ (j + 1) q) (k6 : tK τ q = 6) (hj : j ≤ dd) (hjd : j ≤ d) (hF : 1000 ≤ F) (ho : o + (j + 1) ≤ 12) :
    ∀ (r k nf : Nat) (h : Hp) (a : Nat) (l : List (Nat × Vt d)), LPs h0 h sb f n b τ 6 (zI ↑l.length) m0 u0 a e e0 o lo l → k + r = tN τ q → r < nf →
    ∃ rr h', fX11_read_46 F dd R nf nm 300 (sb + 10 + m0) (zI k) h = some (rr, h') ∧ RP h0 h' sb f e0 o m0 u0 τ rr (fnG b (fun _ => true) q e lo l (rdS b τ (fun t a e m => rd b τ d t none a e m) (dfl τ d) q e r k a (m0 + 1 + szs l))) := by
  have w3 := w.seq k6
  intro r
  induction r with
  | zero =>
    intro k nf h a l L hk hn
    cases nf with
    | zero => omega
    | succ nf =>
      obtain ⟨al, c1⟩ := c.fr L.2.2.1
      rcases c1 with ⟨k2, -⟩ | ⟨k2, -⟩ | ⟨k2, -⟩ | ⟨k2, -⟩ | ⟨k2, c1, c2, c3, c4, c5, c6⟩ | ⟨k2, -⟩ | ⟨k2, -⟩ | ⟨k2, -⟩
      all_goals first | (exfalso; omega) | skip
      rw [fX11_read_46, c5, if_pos ((zn_le (by omega) (by omega)).mpr (by omega)), rdS]
      obtain ⟨v, h1, e1, s1, q1⟩ := L.end (F := F) (dd := dd) (q := q) (show o < 12 by omega) (by rw [k6]; rfl)
      rw [e1, ca_s]
      show ∃ rr h', _ ∧ RP h0 h' sb f e0 o m0 u0 τ rr (if true = true then (match lea b a e lo with | none => none | some a3 => some (mkV q (Int32.ofNat (l.length + 0)) [] (l ++ []), a3)) else none)
      rw [if_pos rfl, List.append_nil, Nat.add_zero, zI_nat]
      cases hl : lea b a e lo with
      | none => rw [hl] at q1; rw [q1, if_pos rfl]; exact ⟨_, h1, rfl, RPn s1 rfl⟩
      | some a3 => rw [hl] at q1; rw [q1.1, if_neg (show ¬ (1 : Int32) = 0 by decide)]; exact ⟨_, h1, rfl, q1.2.2.2⟩
  | succ r ih =>
    intro k nf h a l L hk hn
    cases nf with
    | zero => omega
    | succ nf =>
      have L0 := L
      obtain ⟨G, R1, st, L1, L2, L3⟩ := L
      have S0 := R1
      obtain ⟨hx0, p, B, s, A0, h3, h4, l1, l2, l3, l4⟩ := R1
      obtain ⟨al, c1⟩ := c.fr st
      rcases c1 with ⟨k2, -⟩ | ⟨k2, -⟩ | ⟨k2, -⟩ | ⟨k2, -⟩ | ⟨k2, c1, ⟨c2, c2l⟩, ⟨c3, c3l⟩, ⟨c4, c4l⟩, c5, c6⟩ | ⟨k2, -⟩ | ⟨k2, -⟩ | ⟨k2, -⟩
      all_goals first | (exfalso; omega) | skip
      obtain ⟨cF, cD, cc, c7, c8⟩ := c6 k (by omega)
      obtain ⟨wF, wD, wk⟩ := w3.2 k (by omega)
      have hS := tS_lt wk
      have n1 : nd_Ln (nm + 1) = 6 := nd_Kd_Ln (by omega)
      have n2 : nd_Ln (nm + 2) = 6 := nd_Kd_Ln (by omega)
      have n3 : nd_Ln (nm + 3) = 6 := nd_Kd_Ln (by omega)
      have ib : inb (zI ↑k) 6 = true := zn_inb (show k < 6 by omega) (by omega)
      have kc : (zI ↑k).toNatClampNeg = k := zn_cl (by omega)
      obtain ⟨x, e1, H⟩ := tgH_of (F := F) (dd := dd) S0
      -- what is missing
      have ABS : (tS τ (tC τ q k) &&& bitA b a e = 0) → ∃ rr h', fX11_read_88 F dd R (fX11_read_46 F dd R nf) nm 300 (sb + 10 + m0) (zI k) h = some (rr, h') ∧ RP h0 h' sb f e0 o m0 u0 τ rr (fnG b (fun _ => true) q e lo l (rdS b τ (fun t a e m => rd b τ d t none a e m) (dfl τ d) q e (r + 1) k a (m0 + 1 + szs l))) := by
        intro hz
        rw [rdS, if_neg (fun y => y hz)]
        unfold fX11_read_88 fX11_read_89 fX11_read_116
        rw [if_pos rfl, p.2.2.1, nn_s]
        unfold fX11_add
        rw [if_pos rfl, c3, nn_s, n2, ib, ck_t, kc, cF]
        by_cases f2 : tF τ q k = 2
        · rw [f2, if_pos (show zI ↑(2 : Nat) = 2 from rfl), c2, nn_s, n1, ib, ck_t, bn_d, c4, nn_s, n3, ib, ck_t, c7, nn_s, if_neg (show ¬ 2 = 0 by omega), if_pos rfl]
          obtain ⟨d1, e2⟩ := giv_df (F := F) (sb := sb) (x := tD τ q k) c8 wk hj (by omega) (wD f2).k
          rw [cD f2, e2]
          by_cases hm : m0 + 1 + szs l < 100
          · rw [if_pos hm]
            cases d with
            | zero =>
              cases j with
              | zero => exact c8.elim
              | succ j => omega
            | succ d =>
              obtain ⟨h1, e3, G1, ef1⟩ := GS.mk0 (F := F) (dd := d1) (τ := τ) (kd := zI (tK τ (bas τ 200 (tC τ q k)))) (num := tD τ q k) s hx0 h3 h4 hm d
              rw [e3, ca_s]
              unfold fX11_add_40
              have K := G1.fin (q := bas τ 200 (tC τ q k)) rfl
              have le : a + oz (d + 1) (dfl τ (d + 1) (tC τ q k) (tD τ q k)) ≤ a ∧ a ≤ e ∧ okM (d + 1) (m0 + 1 + szs l) (dfl τ (d + 1) (tC τ q k) (tD τ q k)) := by
                have := dfl_sz (τ := τ) d (tC τ q k) (tD τ q k)
                unfold okM
                omega
              obtain ⟨u1, h2, e4, u2, L4⟩ := L0.kid (F := F) (dd := dd) G1.1.1 ef1 (by decide) (by decide) (by decide) (v := dfl τ (d + 1) (tC τ q k) (tD τ q k)) K (A0.fr p.1.1 ef1 (by decide)) (fun i hi => ⟨ef1.a i p.1.2.1 (by decide), ef1.a i p.1.2.2.1 (by decide)⟩) le k
              rw [oc_s, e4, cv_s, bn_d, u2, zn_succ, ca_s, if_neg (show ¬ (1 : Int32) = 0 by decide), bn_d, zn_succ]
              have e5 : (l ++ [(k, dfl τ (d + 1) (tC τ q k) (tD τ q k))]).length = l.length + 1 := by simp
              have e6 : szs (l ++ [(k, dfl τ (d + 1) (tC τ q k) (tD τ q k))]) = szs l + 1 := by rw [szs_app, szs_cons, szs_nil, (dfl_sz d _ _).1]
              obtain ⟨rr, h3', e7, p7⟩ := ih (k + 1) nf _ a (l ++ [(k, dfl τ (d + 1) (tC τ q k) (tD τ q k))]) (by rw [e5]; exact L4 _) (by omega) (by omega)
              refine ⟨rr, h3', e7, ?_⟩
              rw [e6, ← Nat.add_assoc, ← fnG_c] at p7
              exact p7
          · rw [if_neg hm, make_no h3 (by omega) (by omega), ca_s]
            unfold fX11_add_40
            rw [oc_n, if_pos rfl, c3, nn_s, n2, ib, ck_t, kc, cF, f2, if_neg (show ¬ zI ↑(2 : Nat) = 1 by decide), ca_s, if_pos rfl]
            exact ⟨_, h, rfl, RPn s rfl⟩
        · rw [if_neg (show ¬ zI ↑(tF τ q k) = 2 from zn_ne 2 f2 rfl (by omega) (by omega))]
          unfold fX11_add_40
          rw [oc_n, if_pos rfl, c3, nn_s, n2, ib, ck_t, kc, cF]
          by_cases f0 : tF τ q k = 0
          · rw [f0, if_neg (show ¬ zI ↑(0 : Nat) = 1 by decide), ca_s, if_pos rfl, if_pos rfl]
            exact ⟨_, h, rfl, RPn s rfl⟩
          · have f1 : tF τ q k = 1 := by omega
            rw [f1, if_pos (show zI ↑(1 : Nat) = 1 from rfl), ca_s, if_neg (show ¬ (1 : Int32) = 0 by decide), bn_d, zn_succ, if_neg (show ¬ 1 = 0 by omega), if_neg (show ¬ 1 = 2 by omega)]
            exact ih (k + 1) nf h a l L0 (by omega) (by omega)
      rw [fX11_read_46, c5, if_neg (show ¬ zI ↑(tN τ q) ≤ zI ↑k from fun z => by rw [zn_le (by omega) (by omega)] at z; omega), e1, ca_s]
      by_cases hx : x = -1
      · rw [if_pos hx]
        apply ABS
        rcases H with ⟨-, q⟩ | ⟨-, -, -, q⟩
        · rw [q, Nat.and_zero]
        · exact absurd hx q
      rw [if_neg hx, c2, nn_s, n1, ib, ck_t, bn_d, kc, c7, nn_s, tags_ok (by omega) c8 wk hj, ca_s, e1, ca_s]
      by_cases ct : ((zI ↑(tS τ (tC τ q k)) >>> (x &&& 31)) &&& 1) = 1
      · rw [if_pos ct]
        obtain ⟨z1, z2⟩ := tgH_nz H hx
        unfold fX11_read_89
        rw [if_neg (show ¬ (1 : Int32) = 0 by decide), c2, nn_s, n1, ib, ck_t, bn_d, kc, c7, nn_s]
        obtain ⟨r1, h1, e2, p2⟩ := RO.2 h cc (tC τ q k) none (-1) sb a e (o + 1) (m0 + 1 + szs l) (u0 + ozs l) c8 wk S0 (by omega) rfl
        obtain ⟨x1, ef1⟩ := RO.1 _ _ _ _ _ hx0 e2
        rw [e2, ca_s]
        unfold fX11_read_116
        rw [(p.fr ef1 (by decide)).2.2.1, nn_s]
        unfold fX11_add fX11_add_40
        rw [if_neg (show ¬ (1 : Int32) = 0 by decide)]
        cases hr1 : rd b τ d (tC τ q k) none a e (m0 + 1 + szs l) with
        | none =>
          rw [hr1] at p2
          rw [p2.2, oc_n, if_neg (show ¬ (1 : Int32) = 0 by decide), ca_s, if_pos rfl]
          refine ⟨_, h1, rfl, RPn p2.1 ?_⟩
          rcases tgH_t H hx hS with y | y
          · exact fnG_0 y z1 z2
          · rw [rdS, if_pos (y.mp ct), hr1]; rfl
        | some z =>
          obtain ⟨v, a1⟩ := z
          rw [hr1] at p2
          have le := rd_le _ _ _ _ _ _ _ _ l1 hr1
          obtain ⟨u1, h2, e4, u2, L4⟩ := L0.kid (F := F) (dd := dd) x1 ef1 (by decide) (by decide) (by decide) p2.kp p2.2.2.1 p2.2.2.2.2.2.2.2.2 le k
          rw [p2.2.1, oc_s, e4, cv_s, bn_d, u2, zn_succ, ca_s, if_neg (show ¬ (1 : Int32) = 0 by decide), bn_d, zn_succ]
          have e5 : (l ++ [(k, v)]).length = l.length + 1 := by simp
          have e6 : szs (l ++ [(k, v)]) = szs l + sz d v := by rw [szs_app, szs_cons, szs_nil, Nat.add_zero]
          obtain ⟨rr, h3', e7, p7⟩ := ih (k + 1) nf _ a1 (l ++ [(k, v)]) (by rw [e5]; exact L4 _) (by omega) (by omega)
          refine ⟨rr, h3', e7, ?_⟩
          rw [e6, ← Nat.add_assoc, ← fnG_c] at p7
          have yb : tS τ (tC τ q k) &&& bitA b a e ≠ 0 := rd_bg wk (by omega) hr1
          rw [rdS, if_pos yb, hr1]
          exact p7
      · rw [if_neg ct]
        apply ABS
        rcases tgH_t H hx hS with y | y
        · rw [y, Nat.and_zero]
        · rcases Nat.decEq (tS τ (tC τ q k) &&& bitA b a e) 0 with z | z
          · exact absurd (y.mpr z) ct
          · exact z
theorem seq_rd {h : Hp} {a m u nm q : Nat} {g : Option Nat} {dg : Int32} {R : Nat → Nat → Int32 → Hp → Option (Option Nat × Hp)} (RO : RdOK F τ b f n R j d) (c : CTy h τ (j + 1) nm q) (w : WFt τ (j + 1) q) (k : tK τ q = 6) (hj : j ≤ dd) (hjd : j ≤ d)
    (S : RS h sb f n b a e0 o m u) (ho : o + (j + 1) ≤ 12) (hF : 1000 ≤ F) (hg : dgO g dg) : ∃ r h', fX11_read F dd R nm 300 dg h = some (r, h') ∧ RP h h' sb f e0 o m u τ r (rd b τ (d + 1) q g a e0 m) := by
  have tb := tgB_gr (τ := τ) (q := q) (by omega)
  have w3 := w.seq k
  have e16 : fX11_read F dd R nm 300 dg h = fX11_read_16 F dd R nm 300 300 (zI ↑(tgB τ q g)) h := by
    unfold fX11_read
    cases g with
    | none => rw [if_pos (show dg = -1 from hg), tb.1]; rfl
    | some y =>
      have := hg.2
      rw [if_neg (show ¬ dg = -1 by rw [hg.1]; exact zn_m1 (by omega)), hg.1]
      rw [tb.2, ← zn_add]
      rfl
  have tb2 : tgB τ q g < 256 := by
    cases g with
    | none => rw [tb.1]; omega
    | some y => have := hg.2; rw [tb.2]; omega
  rw [e16, rd_in (by omega) (by omega)]
  unfold rdIn
  rw [if_pos k]
  unfold fX11_read_16 rdSq
  obtain ⟨v, h1, e1, s1, p1, q1⟩ := LPs.ini (F := F) (dd := dd) (τ := τ) (kd := 6) S (show o < 12 by omega) tb2 d
  rw [e1, ca_s]
  cases hen : ent b (tgB τ q g) a e0 with
  | none =>
    rw [hen] at q1
    rw [q1, if_pos rfl]
    unfold fX11_read_36
    exact ⟨_, h1, rfl, RPn s1 (by split <;> rfl)⟩
  | some z =>
    obtain ⟨a1, e1', lo⟩ := z
    rw [hen] at q1
    obtain ⟨r1, q1⟩ := q1
    rw [r1, if_neg (show ¬ (1 : Int32) = 0 by decide), p1, nn_s]
    by_cases hm : m < 100
    · rw [if_pos hm] at q1
      obtain ⟨h2, e2, L⟩ := q1
      rw [e2, ca_s, if_pos hm]
      unfold fX11_read_36
      rw [oc_s]
      obtain ⟨rr, h3, e3, p3⟩ := sq_loop (F := F) (dd := dd) RO c w k hj hjd hF ho (tN τ q) 0 F h2 a1 [] L (by omega) (by omega)
      refine ⟨rr, h3, e3, ?_⟩
      rw [szs_nil] at p3
      have p4 : RP h h3 sb f e0 o m u τ rr (fnG b (fun _ => true) q e1' lo [] (rdS b τ (fun t a e m => rd b τ d t none a e m) (dfl τ d) q e1' (tN τ q) 0 a1 (m + 1))) := p3
      show RP h h3 sb f e0 o m u τ rr (match rdS b τ (fun t a e m => rd b τ d t none a e m) (dfl τ d) q e1' (tN τ q) 0 a1 (m + 1) with
        | none => none
        | some (ks, a2) => (match lea b a2 e1' lo with
             | none => none
             | some a3 => some (mkV q (Int32.ofNat ks.length) [] ks, a3)))
      cases hz : rdS b τ (fun t a e m => rd b τ d t none a e m) (dfl τ d) q e1' (tN τ q) 0 a1 (m + 1) with
      | none => rw [hz] at p4; exact p4
      | some z =>
        obtain ⟨ks, a2⟩ := z
        rw [hz] at p4
        simp only [fnG, List.length_nil, Nat.zero_add, List.nil_append, if_true] at p4
        exact p4
    · rw [if_neg hm] at q1
      rw [q1, ca_s, if_neg hm]
      unfold fX11_read_36
      exact ⟨_, h1, rfl, RPn s1 rfl⟩
/-- the class reads as the spec says -/
theorem read_ok (hF : 1000 ≤ F) : ∀ (j d dd : Nat), j ≤ d → j ≤ dd → j < 200 → RdOK F τ b f n (v_read F dd) j d := by
  intro j
  induction j with
  | zero => intro d dd _ _ _; exact ⟨fun nm p dg h r hx e => ev_read F dd hx e, fun h nm t g dg sb a e o m u c => c.elim⟩
  | succ j ih =>
    intro d dd hd hdd hj
    refine ⟨fun nm p dg h r hx e => ev_read F dd hx e, fun h nm t g dg sb a e o m u c w S ho hg => ?_⟩
    cases d with
    | zero => omega
    | succ d =>
    cases dd with
    | zero => omega
    | succ dd =>
      unfold v_read
      have IH := ih d dd (by omega) (by omega) (by omega)
      have IH1 := ih (d + 1) dd (by omega) (by omega) (by omega)
      rcases c.2 with ⟨k, c1⟩ | ⟨k, c1⟩ | ⟨k, c1⟩ | ⟨k, c1, -⟩ | ⟨k, c1, -⟩ | ⟨k, c1, -⟩ | ⟨k, c1, -⟩ | ⟨k, c1, -⟩
      · rw [if_pos c1.1]; exact lf_ok S (by omega) c hF hg d
      · rw [if_pos c1.1]; exact lf_ok S (by omega) c hF hg d
      · rw [if_pos c1.1]; exact lf_ok S (by omega) c hF hg d
      · rw [if_neg (by omega), if_neg (by omega), if_neg (by omega), if_pos c1]; exact lf_ok S (by omega) c hF hg d
      · rw [if_neg (by omega), if_pos c1]; exact seq_rd IH c w k (by omega) (by omega) S ho hF hg
      · rw [if_neg (by omega), if_neg (by omega), if_neg (by omega), if_neg (by omega), if_pos c1]; exact ser_rd IH c w k S ho hF hg
      · rw [if_neg (by omega), if_neg (by omega), if_pos c1]; exact cho_rd IH c w k (by omega) S ho hF
      · rw [if_neg (by omega), if_neg (by omega), if_neg (by omega), if_neg (by omega), if_neg (by omega), if_pos c1]; exact tag_rd IH1 c w k (by omega) S ho hg
end Rg5
