/-! THE CLASS WRITES (4): DER, all of it -/
set_option maxRecDepth 100000
section Cw2
variable {sb F dd d j : Nat} {τ : Tb}
def WrOK (F : Nat) (τ : Tb) (sb : Nat) (R : Nat → Nat → Nat → Int32 → Hp → Option Hp) (j d : Nat) : Prop :=
  ∀ (h : Hp) (nm t : Nat) (v : Vt d) (i u : Nat) (g : Option Nat) (dg : Int32) (acc : List Bool), CTy h τ j nm t → WFt τ j t → VOk τ d v t → CV h sb τ d v i u → dgO g dg → WB h 311 501 310 acc → WP h sb →
    acc.length + 8 * (enc τ d v t g).length ≤ 20800 → sz d v ≤ 100 → u + oz d v ≤ 120 → ∃ h', R nm (sb + 10 + i) 310 dg h = some h' ∧ WB h' 311 501 310 (acc ++ btB (enc τ d v t g)) ∧ WO h h'
theorem wsq_lp {i u q nm : Nat} {R : Nat → Nat → Nat → Int32 → Hp → Option Hp} (RO : WrOK F τ sb R j d) (hF : 1000 ≤ F) :
    ∀ (r k nf : Nat) (h : Hp) (acc : List Bool) (l1 l2 : List (Nat × Vt d)), CSq h τ j nm q → Cut h sb τ i u q k l1 l2 → k + r = tN τ q → (∀ p ∈ l2, VOk τ d p.2 (tC τ q p.1)) → WB h 311 501 310 acc → WP h sb → acc.length + 8 * (kdE τ q l2).length ≤ 20800 → szs l2 ≤ 100 → u + ozs l1 + ozs l2 ≤ 120 → r < nf →
    ∃ h', fX11_write_27 F dd R nf nm (sb + 10 + i) 310 (zI k) h = some h' ∧ WB h' 311 501 310 (acc ++ btB (kdE τ q l2)) ∧ WO h h' := by
  intro r
  induction r with
  | zero =>
    intro k nf h acc l1 l2 S C hk hv B P hl hz hu hn
    obtain ⟨s0, s1, s2, s3, s4, s6, s5⟩ := S
    cases nf with
    | zero => omega
    | succ nf =>
      have h6 := C.2.2.2.2
      rw [fX11_write_27, s4, if_pos ((zn_le (by omega) (by omega)).mpr (by omega))]
      have : l2 = [] := by
        cases l2 with
        | nil => rfl
        | cons p l2 => have := C.2.2.1.2.1; have := C.2.2.1.1; omega
      rw [this]
      exact ⟨h, rfl, by rw [show btB (kdE τ q ([] : List (Nat × Vt d))) = [] from rfl, List.append_nil]; exact B, WO.rf h⟩
  | succ r ih =>
    intro k nf h acc l1 l2 S C hk hv B P hl hz hu hn
    have S0 := S
    obtain ⟨s0, s1, s2, s3, s4, s6, s5⟩ := S
    have h6 := C.2.2.2.2
    have n1 : nd_Ln (nm + 1) = 6 := nd_Kd_Ln (by omega)
    have ib : inb (zI ↑k) 6 = true := zn_inb (show k < 6 by omega) (by omega)
    cases nf with
    | zero => omega
    | succ nf =>
      rw [fX11_write_27, s4, if_neg (show ¬ zI ↑(tN τ q) ≤ zI ↑k from fun z => by rw [zn_le (by omega) (by omega)] at z; omega)]
      rcases C.or with ⟨v, l, e⟩ | hno
      · subst e
        obtain ⟨e1, cv, C2, hk2⟩ := C.yes (F := F) (dd := dd) hF
        rw [isW_yes C S0 hF, ca_s]
        rw [kdE_c] at hl ⊢
        rw [szs_cons] at hz
        rw [ozs_cons] at hu
        dsimp only at hz hu
        have o1 : ozs (l1 ++ [(k, v)]) = ozs l1 + oz d v := by rw [ozs_app, ozs_cons, ozs_nil]; rfl
        unfold fX11_write_64
        cases hl2 : lft τ q (k, v) with
        | true =>
          rw [hl2] at hl
          rw [if_pos (show b2i (!true) = 0 from rfl), bn_d, zn_succ]
          exact ih (k + 1) nf h acc _ l S0 C2 (by omega) (fun p hp => hv p (List.mem_cons_of_mem _ hp)) B P hl (by omega) (by omega) (by omega)
        | false =>
          rw [hl2, if_neg (show ¬ (false = true) by decide), List.length_append] at hl
          rw [if_neg (show ¬ b2i (!false) = 0 by decide), s1, nn_s, n1, ib, ck_t, bn_d, zn_cl (by omega), e1, ca_s]
          obtain ⟨f1, f2, f3, cc, c7, c8, wk⟩ := s5 k hk2
          rw [c7, nn_s, nn_s]
          obtain ⟨h1, e2, B1, O1⟩ := RO h cc (tC τ q k) v _ _ none (-1) acc c8 wk (hv _ (List.mem_cons_self)) cv rfl B P (by omega) (by omega) (by omega)
          rw [e2, cv_s, bn_d, zn_succ]
          obtain ⟨h2, e3, B2, O2⟩ := ih (k + 1) nf h1 _ _ l (S0.wo O1) (C2.wo O1 P.1) (by omega) (fun p hp => hv p (List.mem_cons_of_mem _ hp)) B1 (P.fr O1) (by rw [List.length_append, btB_len]; omega) (by omega) (by omega) (by omega)
          refine ⟨h2, e3, ?_, O1.tr O2⟩
          rw [if_neg (show ¬ (false = true) by decide), btB_app, ← List.append_assoc]
          exact B2
      · obtain ⟨e1, C2⟩ := C.no (F := F) (dd := dd) hno hF (by omega)
        rw [isW_no C hno hF (by omega), ca_s, if_pos rfl]
        unfold fX11_write_64
        rw [bn_d, zn_succ]
        exact ih (k + 1) nf h acc _ l2 S0 C2 (by omega) hv B P hl hz hu (by omega)
theorem wls_lp {q nm c : Nat} {R : Nat → Nat → Nat → Int32 → Hp → Option Hp} (RO : WrOK F τ sb R j d) (w2 : WFt τ j (tC τ q 0)) :
    ∀ (l : List (Nat × Vt d)) (o : Option Nat) (jj u nf : Nat) (h : Hp) (acc : List Bool), gP h 1501 nm = some c → CTy h τ j c (tC τ q 0) → Ch h sb (CV h sb τ d) o l jj u → (∀ p ∈ l, VOk τ d p.2 (tC τ q 0)) → WB h 311 501 310 acc → WP h sb → acc.length + 8 * (ktE τ (tC τ q 0) l).length ≤ 20800 → szs l ≤ 100 → u + ozs l ≤ 120 → l.length < nf →
    ∃ h', fX15_write_30 F dd R nf nm 310 o h = some h' ∧ WB h' 311 501 310 (acc ++ btB (ktE τ (tC τ q 0) l)) ∧ WO h h' := by
  intro l
  induction l with
  | nil =>
    intro o jj u nf h acc c4 c5 C hv B P hl hz hu hn
    cases nf with
    | zero => omega
    | succ nf =>
      have : o = none := C
      rw [fX15_write_30, this, oc_n]
      exact ⟨h, rfl, by rw [show btB (ktE τ (tC τ q 0) ([] : List (Nat × Vt d))) = [] from rfl, List.append_nil]; exact B, WO.rf h⟩
  | cons p l ih =>
    intro o jj u nf h acc c4 c5 C hv B P hl hz hu hn
    cases nf with
    | zero => omega
    | succ nf =>
      obtain ⟨d1, d2, d3, d4⟩ := C
      rw [ktE_c] at hl ⊢
      rw [List.length_append] at hl
      rw [List.length_cons] at hn
      rw [szs_cons] at hz
      rw [ozs_cons] at hu
      rw [fX15_write_30, d1, oc_s, bn_d, c4, nn_s]
      obtain ⟨h1, e1, B1, O1⟩ := RO h c _ p.2 _ _ none (-1) acc c5 w2 (hv _ (List.mem_cons_self)) d3 rfl B P (by omega) (by omega) (by omega)
      rw [e1, cv_s, bn_d, O1.1]
      obtain ⟨h2, e2, B2, O2⟩ := ih _ _ _ nf h1 _ (by rw [O1.1]; exact c4) (c5.fr O1.ty) (d4.wo O1 P.1) (fun x hx => hv x (List.mem_cons_of_mem _ hx)) B1 (P.fr O1) (by rw [List.length_append, btB_len]; omega) (by omega) (by omega) (by omega)
      refine ⟨h2, e2, ?_, O1.tr O2⟩
      rw [btB_app, ← List.append_assoc]
      exact B2
theorem zc_bool {x : Int32} (h : x = 0 ∨ x = 1) : zI ↑(255 * x).toNatClampNeg = 255 * x := by
  rcases h with h | h <;> rw [h] <;> decide
theorem write_ok (hF : 1000 ≤ F) : ∀ (j d dd : Nat), j ≤ dd → j < 200 → WrOK F τ sb (v_write F dd) j d := by
  intro j
  induction j with
  | zero => intro d dd _ _ h nm t v i u g dg acc c; exact c.elim
  | succ j ih =>
    intro d dd hdd hj h nm t v i u g dg acc c w vo cv hg B P hl hz hu
    cases d with
    | zero => exact vo.elim
    | succ d =>
    cases dd with
    | zero => omega
    | succ dd =>
      unfold v_write
      have IH := ih d dd (by omega) (by omega)
      have IH1 := ih (d + 1) dd (by omega) (by omega)
      have SZ := size_ok (τ := τ) (sb := sb) hF j d dd (by omega) (by omega)
      have SZ1 := size_ok (τ := τ) (sb := sb) hF j (d + 1) dd (by omega) (by omega)
      have c0 := c
      obtain ⟨al, c⟩ := c
      by_cases k10 : tK τ t = 10
      · rcases c with ⟨k2, -⟩ | ⟨k2, -⟩ | ⟨k2, -⟩ | ⟨k2, -⟩ | ⟨k2, -⟩ | ⟨k2, -⟩ | ⟨k2, -⟩ | ⟨k2, c1, c2, c3, x, c4, c5⟩
        all_goals first | (exfalso; omega) | skip
        obtain ⟨w1, w2⟩ := w.tag k10
        have vo2 : VOk τ (d + 1) v (tC τ t 0) := vo.bas (bas_tag w k10 (by omega))
        have hy : g.getD (tG τ t) ≤ 9 := by
          cases g with
          | none => exact w1
          | some y => exact hg.2
        rw [if_neg (by omega), if_neg (by omega), if_neg (by omega), if_neg (by omega), if_neg (by omega), if_pos c1]
        have e13 : fX16_write F dd (v_write F dd) nm (sb + 10 + i) 310 dg h = fX16_write_13 F dd (v_write F dd) nm (sb + 10 + i) 310 (zI ↑(g.getD (tG τ t))) h := by
          unfold fX16_write
          cases g with
          | none => rw [if_pos (show dg = -1 from hg), c2]; rfl
          | some y =>
            have := hg.2
            rw [if_neg (show ¬ dg = -1 by rw [hg.1]; exact zn_m1 (by omega)), hg.1]; rfl
        rw [e13]
        rw [enc_tag w k10 (by omega) (by omega) g] at hl ⊢
        generalize g.getD (tG τ t) = y at *
        unfold fX16_write_13 fX16_write_40 fX16_write_59
        rw [c3]
        by_cases ce : tM τ t = true ∧ tK τ (tC τ t 0) ≠ 9
        · have : (!tM τ t || tK τ (tC τ t 0) == 9) = false := by rw [ce.1]; simpa using ce.2
          rw [if_pos ce] at hl ⊢
          rw [this, if_pos (show b2i false = 0 from rfl), c4, nn_s, if_pos (show b2i false = 0 from rfl)]
          obtain ⟨h1, e1, B1, O1⟩ := IH1 h x _ v i u (some y) (zI y) acc c5 w2 vo2 cv ⟨rfl, hy⟩ B P hl hz hu
          rw [e1, cv_s]
          exact ⟨h1, rfl, B1, O1⟩
        · have : (!tM τ t || tK τ (tC τ t 0) == 9) = true := by
            cases z : tM τ t with
            | false => rfl
            | true =>
              have : tK τ (tC τ t 0) = 9 := by
                rcases Nat.decEq (tK τ (tC τ t 0)) 9 with z2 | z2
                · exact absurd ⟨z, z2⟩ ce
                · exact z2
              rw [this]; rfl
          rw [if_neg ce, List.length_append] at hl
          rw [if_neg ce, this, if_neg (show ¬ b2i true = 0 by decide), c4, nn_s, SZ1 h x _ v i u c5 w2 vo2 cv (by omega) hz, ca_s, show (160 : Int32) + zI ↑y = zI ↑(160 + y) from zn_add 160 y]
          obtain ⟨h1, e1, B1, O1⟩ := hdr_ok (F := F) (dd := dd) (x := 160 + y) (n := (enc τ (d + 1) v (tC τ t 0) none).length) B P.2.1 (by omega) (by omega) hF
          rw [e1, cv_s, O1.1, c4, nn_s, O1.2.2.2.1 _ _ (by omega), c3, this, if_neg (show ¬ b2i true = 0 by decide)]
          obtain ⟨h2, e2, B2, O2⟩ := IH1 h1 x _ v i u none (-1) _ (c5.fr O1.ty) w2 vo2 (cv.wo O1 P.1) rfl B1 (P.fr O1) (by rw [List.length_append, btB_len]; omega) hz hu
          rw [e2, cv_s]
          refine ⟨h2, rfl, ?_, O1.tr O2⟩
          rw [btB_app, ← List.append_assoc]
          exact B2
      · have hv := vo.1
        rw [bas_ne k10] at hv
        have hvo := vo.2
        have cvN := cv.1.2.2.1
        rw [hv] at hvo
        by_cases k9 : tK τ t = 9
        · rcases hvo with ⟨k2, -⟩ | ⟨k2, -⟩ | ⟨k2, -⟩ | ⟨k2, -⟩ | ⟨k2, -⟩ | ⟨k2, -⟩ | ⟨k2, o1, k, w9, o2, o3, o4, o5⟩
          all_goals first | (exfalso; omega) | skip
          rcases c with ⟨k2, -⟩ | ⟨k2, -⟩ | ⟨k2, -⟩ | ⟨k2, -⟩ | ⟨k2, -⟩ | ⟨k2, -⟩ | ⟨k2, c1, ⟨c2, c3⟩, c4, c5⟩ | ⟨k2, -⟩
          all_goals first | (exfalso; omega) | skip
          have w9' := w.cho k9
          obtain ⟨x, c6, c7⟩ := c5 k o2
          have cv2 := cv.2.2
          rw [o4, o1] at cv2
          have hz2 : sz d w9 ≤ 100 := by rw [sz_s, o4, szs_cons] at hz; dsimp only at hz; omega
          have hu2 : u + oz d w9 ≤ 120 := by rw [oz_s, o4, ozs_cons] at hu; dsimp only at hu; omega
          rw [enc_cho k9, cnE_9 k9 o4 o3 (by omega)] at hl ⊢
          rw [if_neg (by omega), if_neg (by omega), if_pos c1]
          unfold fX12_write
          rw [c2, nn_s, cvN, o3, nd_Kd_Ln (by omega), zn_inb (show k < 6 by omega) (by omega), ck_t, bn_d, zn_cl (by omega), bn_d, c6, nn_s, cv2.1, nn_s]
          obtain ⟨h1, e1, B1, O1⟩ := IH h x _ w9 _ _ none (-1) acc c7 (w9'.2.2 k o2) o5 cv2.2.2.1 rfl B P hl hz2 hu2
          rw [e1, cv_s]
          exact ⟨h1, rfl, B1, O1⟩
        · rw [enc_in k10 k9] at hl ⊢
          rw [List.length_append] at hl
          -- a leaf
          have LF : (tK τ t = 1 ∨ tK τ t = 2 ∨ tK τ t = 4 ∨ tK τ t = 5) → gI h 800 nm = zI (tK τ t) → v_content F dd nm (sb + 10 + i) h = some (zI ↑(cnE τ (enc τ d) v t).length, h) →
              (∀ (h1 : Hp) (acc1 : List Bool), WO h h1 → WB h1 311 501 310 acc1 → acc1.length + 8 * (cnE τ (enc τ d) v t).length ≤ 20800 → ∃ h', v_writeContent F dd nm (sb + 10 + i) 310 h1 = some h' ∧ WB h' 311 501 310 (acc1 ++ btB (cnE τ (enc τ d) v t)) ∧ WO h1 h') →
              ∃ h', fX8_write F dd nm (sb + 10 + i) 310 dg h = some h' ∧ WB h' 311 501 310 (acc ++ btB (hdr (tgB τ t g) (cnE τ (enc τ d) v t).length ++ cnE τ (enc τ d) v t)) ∧ WO h h' := by
            intro hk h8 hc hw
            have e18 : fX8_write F dd nm (sb + 10 + i) 310 dg h = fX8_write_18 F dd nm (sb + 10 + i) 310 310 (zI ↑(tgB τ t g)) h := by
              unfold fX8_write
              have tb := tgB_lf (τ := τ) (q := t) (by omega)
              cases g with
              | none => rw [if_pos (show dg = -1 from hg), h8, tb.1]
              | some y =>
                have := hg.2
                rw [if_neg (show ¬ dg = -1 by rw [hg.1]; exact zn_m1 (by omega)), hg.1, show (128 : Int32) + zI ↑y = zI ↑(128 + y) from zn_add 128 y, tb.2]
            rw [e18]
            unfold fX8_write_18
            rw [hc, ca_s]
            obtain ⟨h1, e1, B1, O1⟩ := hdr_ok (F := F) (dd := dd) (x := tgB τ t g) (n := (cnE τ (enc τ d) v t).length) B P.2.1 (by omega) (by omega) hF
            rw [e1, cv_s]
            obtain ⟨h2, e2, B2, O2⟩ := hw h1 _ O1 B1 (by rw [List.length_append, btB_len]; omega)
            rw [e2, cv_s]
            refine ⟨h2, rfl, ?_, O1.tr O2⟩
            rw [btB_app, ← List.append_assoc]
            exact B2
          have GR : ∀ (f16 : Nat → Int32 → Hp → Option Hp), (tK τ t = 6 ∨ tK τ t = 7) → (if dg = -1 then f16 310 48 h else f16 310 (160 + dg) h) = f16 310 (zI ↑(tgB τ t g)) h := by
            intro f16 hk
            have tb := tgB_gr (τ := τ) (q := t) hk
            cases g with
            | none => rw [if_pos (show dg = -1 from hg), tb.1]; rfl
            | some y =>
              have := hg.2
              rw [if_neg (show ¬ dg = -1 by rw [hg.1]; exact zn_m1 (by omega)), hg.1, show (160 : Int32) + zI ↑y = zI ↑(160 + y) from zn_add 160 y, tb.2]
          rcases c with ⟨k, c⟩ | ⟨k, c⟩ | ⟨k, c⟩ | ⟨k, c1, c2, c3, c4⟩ | ⟨k, c1, -⟩ | ⟨k, c1, c2, c3, x, c4, c5⟩ | ⟨k, -⟩ | ⟨k, -⟩
          · have e : cnE τ (enc τ d) v t = [(255 * vN v).toNatClampNeg] := by unfold cnE; rw [if_pos k]
            rw [if_pos c.1]
            refine LF (by omega) (by rw [c.2.2.1, k]; rfl) ?_ ?_
            · unfold v_content fX9_content
              rw [if_pos c.1, c.2.1, if_neg (by decide), if_pos rfl, e]; rfl
            · intro h1 acc1 O1 B1 hl1
              rw [e] at hl1 ⊢
              unfold v_writeContent fX9_writeContent
              rw [if_pos c.1, O1.2.2.2.1 _ _ (by omega), c.2.1, if_pos rfl, O1.2.2.2.1 _ _ (by omega), cvN]
              obtain ⟨h2, e2, B2, O2⟩ := add8_ok (F := F) (d := dd) (v := 255 * vN v) B1 (P.fr O1).2.1 (by simp at hl1; omega) hF
              rw [e2, cv_s]
              refine ⟨h2, rfl, ?_, O2⟩
              rcases hvo with ⟨k2, o1, -⟩ | ⟨k2, -⟩ | ⟨k2, -⟩ | ⟨k2, -⟩ | ⟨k2, -⟩ | ⟨k2, -⟩ | ⟨k2, -⟩
              all_goals first | (exfalso; omega) | skip
              rw [btB_c, btB_nil, List.append_nil, zc_bool o1]
              exact B2
          · have e : cnE τ (enc τ d) v t = [] := by unfold cnE; rw [if_neg (by omega), if_neg (by omega), if_neg (by omega), if_pos k]
            rw [if_pos c.1]
            refine LF (by omega) (by rw [c.2.2.1, k]; rfl) ?_ ?_
            · unfold v_content fX9_content
              rw [if_pos c.1, c.2.1, if_pos rfl, e]; rfl
            · intro h1 acc1 O1 B1 hl1
              rw [e]
              unfold v_writeContent fX9_writeContent
              rw [if_pos c.1, O1.2.2.2.1 _ _ (by omega), c.2.1, if_neg (by decide), if_pos rfl, btB_nil, List.append_nil]
              exact ⟨h1, rfl, B1, WO.rf h1⟩
          · have e : cnE τ (enc τ d) v t = ibs (vN v) (byO (vN v)) := by unfold cnE; rw [if_neg (by omega), if_pos k]
            rw [if_pos c.1]
            refine LF (by omega) (by rw [c.2.2.1, k]; rfl) ?_ ?_
            · unfold v_content fX9_content
              rw [if_pos c.1, c.2.1, if_neg (by decide), if_neg (by decide), cvN, byO_ok, ca_s, e, ibs_len]
            · intro h1 acc1 O1 B1 hl1
              rw [e] at hl1 ⊢
              rw [ibs_len] at hl1
              unfold v_writeContent fX9_writeContent
              rw [if_pos c.1, O1.2.2.2.1 _ _ (by omega), c.2.1, if_neg (by decide), if_neg (by decide), O1.2.2.2.1 _ _ (by omega), cvN]
              obtain ⟨h2, e2, B2, O2⟩ := pint_ok (F := F) (dd := dd) (v := vN v) B1 (P.fr O1).2.1 hl1 hF
              rw [e2, cv_s]
              exact ⟨h2, rfl, B2, O2⟩
          · rcases hvo with ⟨k2, -⟩ | ⟨k2, -⟩ | ⟨k2, o1, o2, o3, o4⟩ | ⟨k2, -⟩ | ⟨k2, -⟩ | ⟨k2, -⟩ | ⟨k2, -⟩
            all_goals first | (exfalso; omega) | skip
            have e : cnE τ (enc τ d) v t = vO v := by unfold cnE; rw [if_neg (by omega), if_neg (by omega), if_pos k]
            rw [if_neg (by omega), if_neg (by omega), if_neg (by omega), if_pos c1]
            refine LF (by omega) (by rw [c2, k]; rfl) ?_ ?_
            · unfold v_content fX13_content
              rw [if_neg (by omega), if_pos c1, cvN, o1, e]
            · intro h1 acc1 O1 B1 hl1
              rw [e] at hl1 ⊢
              unfold v_writeContent fX13_writeContent
              rw [if_neg (by omega), if_pos c1]
              have cv1 := cv.wo O1 P.1
              rw [oz_s] at hu
              obtain ⟨h2, e2, B2, O2⟩ := octw_lp (F := F) (dd := dd) (sb := sb) (pn := sb + 10 + i) (u := u) (os := vO v) P.1 (by omega) (vO v).length 0 F h1 acc1 B1 (P.fr O1) (cv1.1.2.2.1.trans o1) cv1.1.2.2.2 cv1.2.1 (by omega) hl1 (by omega) hF
              exact ⟨h2, e2, B2, O2⟩
          · rcases hvo with ⟨k2, -⟩ | ⟨k2, -⟩ | ⟨k2, -⟩ | ⟨k2, -⟩ | ⟨k2, o1, o2, o3, o4⟩ | ⟨k2, -⟩ | ⟨k2, -⟩
            all_goals first | (exfalso; omega) | skip
            rw [if_neg (by omega), if_pos c1]
            unfold fX11_write
            rw [GR (fun a b h => fX11_write_16 F dd (v_write F dd) nm (sb + 10 + i) 310 a b h) (by omega)]
            unfold fX11_write_16 fX11_content
            rw [cnE_6 k] at hl ⊢
            have S := CSq.of c0 w k
            have h6 := (w.seq k).1
            have C := Cut.all cv o2 o3 h6
            rw [sz_s] at hz
            rw [oz_s] at hu
            rw [show (0 : Int32) = zI ↑(0 : Nat) from rfl, csq_lp (F := F) (dd := dd) SZ S hF (tN τ t) 0 F 0 [] (vK v) C (by omega) o4 (by omega) (by omega) (by omega), ca_s, Nat.zero_add]
            obtain ⟨h1, e1, B1, O1⟩ := hdr_ok (F := F) (dd := dd) (x := tgB τ t g) (n := (kdE τ t (vK v)).length) B P.2.1 (by omega) (by omega) hF
            rw [e1, cv_s]
            obtain ⟨h2, e2, B2, O2⟩ := wsq_lp (F := F) (dd := dd) IH hF (tN τ t) 0 F h1 _ [] (vK v) (S.wo O1) (C.wo O1 P.1) (by omega) o4 B1 (P.fr O1) (by rw [List.length_append, btB_len]; omega) (by omega) (by rw [ozs_nil]; omega) (by omega)
            refine ⟨h2, e2, ?_, O1.tr O2⟩
            rw [btB_app, ← List.append_assoc]
            exact B2
          · rcases hvo with ⟨k2, -⟩ | ⟨k2, -⟩ | ⟨k2, -⟩ | ⟨k2, -⟩ | ⟨k2, -⟩ | ⟨k2, o1, o2, o3, o4, o5⟩ | ⟨k2, -⟩
            all_goals first | (exfalso; omega) | skip
            rw [if_neg (by omega), if_neg (by omega), if_neg (by omega), if_neg (by omega), if_pos c1]
            unfold fX15_write
            rw [GR (fun a b h => fX15_write_16 F dd (v_write F dd) nm (sb + 10 + i) 310 a b h) (by omega)]
            unfold fX15_write_16 fX15_content
            rw [cnE_7 k] at hl ⊢
            have hln := szs_len (vK v) ⟨_, o5⟩
            have cv2 := cv.2.2
            rw [o2] at cv2
            rw [sz_s] at hz
            rw [oz_s, o2] at hu
            rw [bn_d, show (0 : Int32) = zI ↑(0 : Nat) from rfl, cls_lp (F := F) (dd := dd) SZ c4 c5 (w.lst k).2 (vK v) _ _ _ F 0 cv2 o5 (by omega) (by omega) (by omega), ca_s, Nat.zero_add]
            obtain ⟨h1, e1, B1, O1⟩ := hdr_ok (F := F) (dd := dd) (x := tgB τ t g) (n := (ktE τ (tC τ t 0) (vK v)).length) B P.2.1 (by omega) (by omega) hF
            rw [e1, cv_s, bn_d, O1.1]
            obtain ⟨h2, e2, B2, O2⟩ := wls_lp (F := F) (dd := dd) (q := t) IH (w.lst k).2 (vK v) _ _ _ F h1 _ (by rw [O1.1]; exact c4) (c5.fr O1.ty) (cv2.wo O1 P.1) o5 B1 (P.fr O1) (by rw [List.length_append, btB_len]; omega) (by omega) (by simp at hu ⊢; omega) (by omega)
            refine ⟨h2, e2, ?_, O1.tr O2⟩
            rw [btB_app, ← List.append_assoc]
            exact B2
          · omega
          · omega
end Cw2
