/-! THE CLASS WRITES (2): sizes -/
set_option maxRecDepth 100000
section Cz
variable {sb F dd d j : Nat} {τ : Tb}
/-- the components of a sequence, the items of a list -/
def kdE (τ : Tb) {d : Nat} (q : Nat) (l : List (Nat × Vt d)) : List Nat := (l.map fun p => if lft τ q p then [] else enc τ d p.2 (tC τ q p.1) none).flatten
def ktE (τ : Tb) {d : Nat} (c : Nat) (l : List (Nat × Vt d)) : List Nat := (l.map fun p => enc τ d p.2 c none).flatten
theorem lft_ne {q : Nat} {p : Nat × Vt d} (h : ¬ tK τ q = 6) : lft τ q p = false := by
  unfold lft
  have : (tK τ q == 6) = false := by simpa using h
  rw [this]; rfl
theorem cnE_6 {v : Vt (d + 1)} {q : Nat} (k : tK τ q = 6) : cnE τ (enc τ d) v q = kdE τ q (vK v) := by
  unfold cnE kdE
  rw [if_neg (by omega), if_neg (by omega), if_neg (by omega), if_neg (by omega)]
  simp only [if_pos k]
theorem cnE_7 {v : Vt (d + 1)} {q : Nat} (k : tK τ q = 7) : cnE τ (enc τ d) v q = ktE τ (tC τ q 0) (vK v) := by
  unfold cnE ktE
  rw [if_neg (by omega), if_neg (by omega), if_neg (by omega), if_neg (by omega)]
  simp only [if_neg (show ¬ tK τ q = 6 by omega), if_pos k, lft_ne (show ¬ tK τ q = 6 by omega)]
  rfl
theorem cnE_9 {v : Vt (d + 1)} {q k : Nat} {w : Vt d} (k9 : tK τ q = 9) (h1 : vK v = [(0, w)]) (h2 : vN v = zI k) (hk : k < 100000) : cnE τ (enc τ d) v q = enc τ d w (tC τ q k) none := by
  unfold cnE
  rw [if_neg (by omega), if_neg (by omega), if_neg (by omega), if_neg (by omega)]
  simp only [if_neg (show ¬ tK τ q = 6 by omega), if_neg (show ¬ tK τ q = 7 by omega), lft_ne (show ¬ tK τ q = 6 by omega), h1, h2, zn_cl (show k < 2147483648 by omega)]
  simp
/-- through a tag -/
theorem enc_tag {n t : Nat} {v : Vt d} (w : WFt τ (n + 1) t) (k : tK τ t = 10) (hn : n < 200) (hd : 1 ≤ d) (g : Option Nat) :
    enc τ d v t g = if tM τ t = true ∧ tK τ (tC τ t 0) ≠ 9 then enc τ d v (tC τ t 0) (some (g.getD (tG τ t))) else hdr (160 + g.getD (tG τ t)) (enc τ d v (tC τ t 0) none).length ++ enc τ d v (tC τ t 0) none := by
  cases d with
  | zero => omega
  | succ d =>
    rw [enc_s, bas_tag w k hn, tgs_tag w k hn]
    by_cases c : tM τ t = true ∧ tK τ (tC τ t 0) ≠ 9
    · rw [if_pos c, if_pos c, enc_s]
    · rw [if_neg c, if_neg c, wrp_c, enc_s]
/-- what is no tag -/
theorem enc_in {t : Nat} {v : Vt (d + 1)} (k : ¬ tK τ t = 10) (k9 : ¬ tK τ t = 9) (g : Option Nat) : enc τ (d + 1) v t g = hdr (tgB τ t g) (cnE τ (enc τ d) v t).length ++ cnE τ (enc τ d) v t := by
  rw [enc_s, bas_ne k, tgs_ne 199 t g k k9]
  rfl
theorem enc_cho {t : Nat} {v : Vt (d + 1)} (k9 : tK τ t = 9) (g : Option Nat) : enc τ (d + 1) v t g = cnE τ (enc τ d) v t := by
  have k10 : ¬ tK τ t = 10 := by omega
  rw [enc_s, bas_ne k10, show tgs τ 200 t g = [] from by show (if _ then _ else if _ then _ else _) = _; rw [if_neg k10, if_pos k9]]
  rfl
def SzOK (F : Nat) (τ : Tb) (sb : Nat) (R : Nat → Nat → Hp → Option (Int32 × Hp)) (j d : Nat) : Prop :=
  ∀ (h : Hp) (nm t : Nat) (v : Vt d) (i u : Nat), CTy h τ j nm t → WFt τ j t → VOk τ d v t → CV h sb τ d v i u → (enc τ d v t none).length < 100000 → sz d v ≤ 100 → R nm (sb + 10 + i) h = some (zI ↑(enc τ d v t none).length, h)
theorem kdE_c (q k : Nat) (v : Vt d) (l : List (Nat × Vt d)) : kdE τ q ((k, v) :: l) = (if lft τ q (k, v) then [] else enc τ d v (tC τ q k) none) ++ kdE τ q l := rfl
theorem ktE_c (c : Nat) (p : Nat × Vt d) (l : List (Nat × Vt d)) : ktE τ c (p :: l) = enc τ d p.2 c none ++ ktE τ c l := rfl
theorem csq_lp {h : Hp} {i u q nm : Nat} {R : Nat → Nat → Hp → Option (Int32 × Hp)} (RO : SzOK F τ sb R j d) (S : CSq h τ j nm q) (hF : 1000 ≤ F) :
    ∀ (r k nf n0 : Nat) (l1 l2 : List (Nat × Vt d)), Cut h sb τ i u q k l1 l2 → k + r = tN τ q → (∀ p ∈ l2, VOk τ d p.2 (tC τ q p.1)) → (kdE τ q l2).length < 100000 → szs l2 ≤ 100 → r < nf →
    fX11_content_4 F dd R nf nm (sb + 10 + i) (zI n0) (zI k) h = some (zI ↑(n0 + (kdE τ q l2).length), h) := by
  have S0 := S
  obtain ⟨s0, s1, s2, s3, s4, s6, s5⟩ := S
  intro r
  induction r with
  | zero =>
    intro k nf n0 l1 l2 C hk hv hl hz hn
    cases nf with
    | zero => omega
    | succ nf =>
      have h6 := C.2.2.2.2
      rw [fX11_content_4, s4, if_pos ((zn_le (by omega) (by omega)).mpr (by omega))]
      have : l2 = [] := by
        cases l2 with
        | nil => rfl
        | cons p l2 => have := C.2.2.1.2.1; have := C.2.2.1.1; omega
      rw [this]; rfl
  | succ r ih =>
    intro k nf n0 l1 l2 C hk hv hl hz hn
    have h6 := C.2.2.2.2
    have n1 : nd_Ln (nm + 1) = 6 := nd_Kd_Ln (by omega)
    have ib : inb (zI ↑k) 6 = true := zn_inb (show k < 6 by omega) (by omega)
    cases nf with
    | zero => omega
    | succ nf =>
      rw [fX11_content_4, s4, if_neg (show ¬ zI ↑(tN τ q) ≤ zI ↑k from fun z => by rw [zn_le (by omega) (by omega)] at z; omega)]
      rcases C.or with ⟨v, l, e⟩ | hno
      · subst e
        obtain ⟨e1, cv, C2, hk2⟩ := C.yes (F := F) (dd := dd) hF
        rw [isW_yes C S0 hF, ca_s]
        rw [kdE_c] at hl ⊢
        rw [szs_cons] at hz
        dsimp only at hz
        unfold fX11_content_40
        cases hl2 : lft τ q (k, v) with
        | true =>
          rw [hl2] at hl
          rw [if_pos (show b2i (!true) = 0 from rfl), bn_d, bn_d, zn_succ, show (0 : Int32) = zI ↑(0 : Nat) from rfl, zn_add, ih (k + 1) nf (n0 + 0) _ l C2 (by omega) (fun p hp => hv p (List.mem_cons_of_mem _ hp)) hl (by omega) (by omega)]
          rfl
        | false =>
          rw [hl2, if_neg (show ¬ (false = true) by decide), List.length_append] at hl
          rw [if_neg (show ¬ b2i (!false) = 0 by decide), s1, nn_s, n1, ib, ck_t, bn_d, zn_cl (by omega), e1, ca_s]
          obtain ⟨f1, f2, f3, cc, c7, c8, wk⟩ := s5 k hk2
          rw [c7, nn_s, nn_s, RO h cc (tC τ q k) v _ _ c8 wk (hv _ (List.mem_cons_self)) cv (by omega) (by omega), ca_s, bn_d, bn_d, zn_succ, zn_add, ih (k + 1) nf _ _ l C2 (by omega) (fun p hp => hv p (List.mem_cons_of_mem _ hp)) (by omega) (by omega) (by omega)]
          rw [if_neg (show ¬ (false = true) by decide), List.length_append, Nat.add_assoc]
      · obtain ⟨e1, C2⟩ := C.no (F := F) (dd := dd) hno hF (by omega)
        rw [isW_no C hno hF (by omega), ca_s, if_pos rfl]
        unfold fX11_content_40
        rw [bn_d, bn_d, zn_succ, show (0 : Int32) = zI ↑(0 : Nat) from rfl, zn_add, ih (k + 1) nf (n0 + 0) _ l2 C2 (by omega) hv hl hz (by omega)]
        rfl
theorem cls_lp {h : Hp} {q nm c : Nat} {R : Nat → Nat → Hp → Option (Int32 × Hp)} (RO : SzOK F τ sb R j d) (c4 : gP h 1501 nm = some c) (c5 : CTy h τ j c (tC τ q 0)) (w2 : WFt τ j (tC τ q 0)) :
    ∀ (l : List (Nat × Vt d)) (o : Option Nat) (jj u nf n0 : Nat), Ch h sb (CV h sb τ d) o l jj u → (∀ p ∈ l, VOk τ d p.2 (tC τ q 0)) → (ktE τ (tC τ q 0) l).length < 100000 → szs l ≤ 100 → l.length < nf →
    fX15_content_7 F dd R nf nm (zI n0) o h = some (zI ↑(n0 + (ktE τ (tC τ q 0) l).length), h) := by
  intro l
  induction l with
  | nil =>
    intro o jj u nf n0 C hv hl hz hn
    cases nf with
    | zero => omega
    | succ nf =>
      have : o = none := C
      rw [fX15_content_7, this, oc_n]; rfl
  | cons p l ih =>
    intro o jj u nf n0 C hv hl hz hn
    cases nf with
    | zero => omega
    | succ nf =>
      obtain ⟨d1, d2, d3, d4⟩ := C
      rw [ktE_c, List.length_append] at hl
      rw [List.length_cons] at hn
      rw [szs_cons] at hz
      rw [fX15_content_7, d1, oc_s, bn_d, c4, nn_s, RO h c _ p.2 _ _ c5 w2 (hv _ (List.mem_cons_self)) d3 (by omega) (by omega), ca_s, bn_d, bn_d, zn_add, ih _ _ _ nf _ d4 (fun x hx => hv x (List.mem_cons_of_mem _ hx)) (by omega) (by omega) (by omega), ktE_c, List.length_append, Nat.add_assoc]
theorem szs_len {τ : Tb} : ∀ (l : List (Nat × Vt d)), (∃ T : Nat × Vt d → Nat, ∀ p ∈ l, VOk τ d p.2 (T p)) → l.length ≤ szs l := by
  intro l
  induction l with
  | nil => intro _; simp
  | cons p l ih =>
    intro ⟨T, hT⟩
    have h1 := ih ⟨T, fun x hx => hT x (List.mem_cons_of_mem _ hx)⟩
    have h2 := hT p (List.mem_cons_self)
    rw [szs_cons, List.length_cons]
    cases d with
    | zero => exact h2.elim
    | succ d => rw [sz_s]; omega
/-- the length of what is inside of a header -/
theorem hd_in {x : Nat} {c : List Nat} : (hdr x c.length ++ c).length = hl c.length + c.length := by rw [List.length_append, hdr_len]
theorem inc.len {α : Type} {hi : Nat} : ∀ {lo : Nat} {l : List (Nat × α)}, inc lo l hi → l.length ≤ hi - lo ∧ (lo ≤ hi → lo + l.length ≤ hi) := by
  intro lo l
  induction l generalizing lo with
  | nil => intro _; simp
  | cons x l ih =>
    intro h
    have h1 := h.1
    have h2 := h.2.1
    have := ih h.2.2
    rw [List.length_cons]
    omega
/-- a whole list of components -/
theorem Cut.all {h : Hp} {i u q : Nat} {v : Vt (d + 1)} (c : CV h sb τ (d + 1) v i u) (h1 : vO v = []) (h2 : inc 0 (vK v) (tN τ q)) (h6 : tN τ q ≤ 6) : Cut h sb τ i u q 0 [] (vK v) := by
  obtain ⟨c1, c2, c3⟩ := c
  rw [h1] at c3
  have := h2.len
  exact ⟨c3, fun p hp => (by cases hp), h2, by simp; omega, h6⟩
theorem size_ok (hF : 1000 ≤ F) : ∀ (j d dd : Nat), j ≤ dd → j < 200 → SzOK F τ sb (v_size F dd) j d := by
  intro j
  induction j with
  | zero => intro d dd _ _ h nm t v i u c; exact c.elim
  | succ j ih =>
    intro d dd hdd hj h nm t v i u c w vo cv hl hz
    cases d with
    | zero => exact vo.elim
    | succ d =>
    cases dd with
    | zero => omega
    | succ dd =>
      unfold v_size
      have IH := ih d dd (by omega) (by omega)
      have IH1 := ih (d + 1) dd (by omega) (by omega)
      have c0 := c
      obtain ⟨al, c⟩ := c
      by_cases k10 : tK τ t = 10
      · rcases c with ⟨k2, -⟩ | ⟨k2, -⟩ | ⟨k2, -⟩ | ⟨k2, -⟩ | ⟨k2, -⟩ | ⟨k2, -⟩ | ⟨k2, -⟩ | ⟨k2, c1, c2, c3, x, c4, c5⟩
        all_goals first | (exfalso; omega) | skip
        have w2 := (w.tag k10).2
        have vo2 : VOk τ (d + 1) v (tC τ t 0) := vo.bas (bas_tag w k10 (by omega))
        rw [if_neg (by omega), if_neg (by omega), if_neg (by omega), if_neg (by omega), if_neg (by omega), if_pos c1]
        unfold fX16_size
        rw [enc_tag w k10 (by omega) (by omega) none] at hl ⊢
        rw [c3]
        by_cases ce : tM τ t = true ∧ tK τ (tC τ t 0) ≠ 9
        · have : (!tM τ t || tK τ (tC τ t 0) == 9) = false := by rw [ce.1]; simpa using ce.2
          rw [if_pos ce, enc_lg _ _ _ _ none] at hl ⊢
          rw [this, if_pos (show b2i false = 0 from rfl), c4, nn_s, IH1 h x _ v i u c5 w2 vo2 cv hl hz, ca_s]
        · have : (!tM τ t || tK τ (tC τ t 0) == 9) = true := by
            cases z : tM τ t with
            | false => rfl
            | true =>
              have : tK τ (tC τ t 0) = 9 := by
                rcases Nat.decEq (tK τ (tC τ t 0)) 9 with z2 | z2
                · exact absurd ⟨z, z2⟩ ce
                · exact z2
              rw [this]; rfl
          rw [if_neg ce, hd_in] at hl ⊢
          rw [this, if_neg (show ¬ b2i true = 0 by decide), c4, nn_s, IH1 h x _ v i u c5 w2 vo2 cv (by omega) hz, ca_s, hed_ok (by omega), ca_s]
      · have hv := vo.1
        rw [bas_ne k10] at hv
        have hvo := vo.2
        have cvN := cv.1.2.2.1
        rw [hv] at hvo
        by_cases k9 : tK τ t = 9
        · rcases hvo with ⟨k2, -⟩ | ⟨k2, -⟩ | ⟨k2, -⟩ | ⟨k2, -⟩ | ⟨k2, -⟩ | ⟨k2, -⟩ | ⟨k2, o1, k, w9, o2, o3, o4, o5⟩
          all_goals first | (exfalso; omega) | skip
          rcases c with ⟨k2, -⟩ | ⟨k2, -⟩ | ⟨k2, -⟩ | ⟨k2, -⟩ | ⟨k2, -⟩ | ⟨k2, -⟩ | ⟨k2, c1, ⟨c2, c3⟩, c4, c5⟩ | ⟨k2, -⟩
          all_goals first | (exfalso; omega) | skip
          have w9' := w.cho k9
          obtain ⟨x, c6, c7⟩ := c5 k o2
          have cv2 := cv.2.2
          rw [o4, o1] at cv2
          have hz2 : sz d w9 ≤ 100 := by rw [sz_s, o4, szs_cons] at hz; dsimp only at hz; omega
          rw [enc_cho k9, cnE_9 k9 o4 o3 (by omega)] at hl ⊢
          rw [if_neg (by omega), if_neg (by omega), if_pos c1]
          unfold fX12_size
          rw [c2, nn_s, cvN, o3, nd_Kd_Ln (by omega), zn_inb (show k < 6 by omega) (by omega), ck_t, bn_d, zn_cl (by omega), bn_d, c6, nn_s, cv2.1, nn_s, IH h x _ w9 _ _ c7 (w9'.2.2 k o2) o5 cv2.2.2.1 hl hz2, ca_s]
        · rw [enc_in k10 k9, hd_in] at hl ⊢
          rcases c with ⟨k, c⟩ | ⟨k, c⟩ | ⟨k, c⟩ | ⟨k, c1, c2, c3, c4⟩ | ⟨k, c1, -⟩ | ⟨k, c1, c2, c3, x, c4, c5⟩ | ⟨k, -⟩ | ⟨k, -⟩
          · rw [if_pos c.1]
            unfold fX8_size v_content
            rw [if_pos c.1]
            unfold fX9_content
            have e : cnE τ (enc τ d) v t = [(255 * vN v).toNatClampNeg] := by unfold cnE; rw [if_pos k]
            rw [e] at hl ⊢
            rw [c.2.1, if_neg (by decide), if_pos rfl, ca_s, show (1 : Int32) = zI ↑(1 : Nat) from rfl, hed_ok (by omega), ca_s]
            rfl
          · rw [if_pos c.1]
            unfold fX8_size v_content
            rw [if_pos c.1]
            unfold fX9_content
            have e : cnE τ (enc τ d) v t = [] := by unfold cnE; rw [if_neg (by omega), if_neg (by omega), if_neg (by omega), if_pos k]
            rw [e] at hl ⊢
            rw [c.2.1, if_pos rfl, ca_s, show (0 : Int32) = zI ↑(0 : Nat) from rfl, hed_ok (by omega), ca_s]
            rfl
          · rw [if_pos c.1]
            unfold fX8_size v_content
            rw [if_pos c.1]
            unfold fX9_content
            have e : cnE τ (enc τ d) v t = ibs (vN v) (byO (vN v)) := by unfold cnE; rw [if_neg (by omega), if_pos k]
            have := byO_le (vN v)
            rw [e, ibs_len] at hl ⊢
            rw [c.2.1, if_neg (by decide), if_neg (by decide), cvN, byO_ok, ca_s, ca_s, hed_ok (by omega), ca_s]
          · rw [if_neg (by omega), if_neg (by omega), if_neg (by omega), if_pos c1]
            unfold fX8_size v_content
            rw [if_neg (by omega), if_pos c1]
            unfold fX13_content
            rcases hvo with ⟨k2, -⟩ | ⟨k2, -⟩ | ⟨k2, o1, o2, o3, o4⟩ | ⟨k2, -⟩ | ⟨k2, -⟩ | ⟨k2, -⟩ | ⟨k2, -⟩
            all_goals first | (exfalso; omega) | skip
            have e : cnE τ (enc τ d) v t = vO v := by unfold cnE; rw [if_neg (by omega), if_neg (by omega), if_pos k]
            rw [e] at hl ⊢
            rw [ca_s, cvN, o1, hed_ok (by omega), ca_s]
          · rw [if_neg (by omega), if_pos c1]
            unfold fX11_size fX11_content
            rcases hvo with ⟨k2, -⟩ | ⟨k2, -⟩ | ⟨k2, -⟩ | ⟨k2, -⟩ | ⟨k2, o1, o2, o3, o4⟩ | ⟨k2, -⟩ | ⟨k2, -⟩
            all_goals first | (exfalso; omega) | skip
            rw [cnE_6 k] at hl ⊢
            have S := CSq.of c0 w k
            have h6 := (w.seq k).1
            rw [show (0 : Int32) = zI ↑(0 : Nat) from rfl, csq_lp (F := F) (dd := dd) IH S hF (tN τ t) 0 F 0 [] (vK v) (Cut.all cv o2 o3 h6) (by omega) o4 (by omega) (by rw [sz_s] at hz; omega) (by omega), ca_s, hed_ok (by omega), ca_s, Nat.zero_add]
          · rw [if_neg (by omega), if_neg (by omega), if_neg (by omega), if_neg (by omega), if_pos c1]
            unfold fX15_size fX15_content
            rcases hvo with ⟨k2, -⟩ | ⟨k2, -⟩ | ⟨k2, -⟩ | ⟨k2, -⟩ | ⟨k2, -⟩ | ⟨k2, o1, o2, o3, o4, o5⟩ | ⟨k2, -⟩
            all_goals first | (exfalso; omega) | skip
            rw [cnE_7 k] at hl ⊢
            have hln := szs_len (vK v) ⟨_, o5⟩
            rw [sz_s] at hz
            rw [bn_d, show (0 : Int32) = zI ↑(0 : Nat) from rfl, cls_lp (F := F) (dd := dd) IH c4 c5 (w.lst k).2 (vK v) _ _ _ F 0 cv.2.2 o5 (by omega) (by omega) (by omega), ca_s, hed_ok (by omega), ca_s, Nat.zero_add]
          · omega
          · omega
end Cz
