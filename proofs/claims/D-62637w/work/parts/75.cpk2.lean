/-! THE CLASS PACKS (2): all of it -/
set_option maxRecDepth 100000
section Pl
variable {sb F dd d j : Nat} {τ : Tb}
def PkOK (F : Nat) (τ : Tb) (sb : Nat) (R : Nat → Nat → Nat → Hp → Option Hp) (j d : Nat) : Prop :=
  ∀ (h : Hp) (nm t : Nat) (v : Vt d) (i u : Nat) (acc : List Bool), CTy h τ j nm t → WFt τ j t → VOk τ d v t → CV h sb τ d v i u → WB h 311 501 310 acc → WP h sb →
    acc.length + 60 * sz d v + 8 * oz d v ≤ 20800 → sz d v ≤ 100 → u + oz d v ≤ 120 → ∃ h', R nm (sb + 10 + i) 310 h = some h' ∧ WB h' 311 501 310 (pk τ d v t acc) ∧ WO h h'
theorem kidF_y {k : Nat} {v : Vt d} : ∀ (l1 l2 : List (Nat × Vt d)), (∀ p ∈ l1, p.1 < k) → kidF (l1 ++ (k, v) :: l2) k = some (k, v) := by
  intro l1
  induction l1 with
  | nil => intro l2 _; simp [kidF]
  | cons p l1 ih =>
    intro l2 h
    have h1 := h p (List.mem_cons_self)
    have h2 := ih l2 (fun x hx => h x (List.mem_cons_of_mem _ hx))
    unfold kidF at h2 ⊢
    rw [List.cons_append, List.find?_cons]
    have : (p.1 == k) = false := by simpa using (show ¬ p.1 = k by omega)
    rw [this]
    exact h2
theorem kidF_n {k : Nat} : ∀ (l : List (Nat × Vt d)), (∀ p ∈ l, p.1 ≠ k) → kidF l k = none := by
  intro l h
  unfold kidF
  rw [List.find?_eq_none]
  intro p hp
  simpa using h p hp
theorem Cut.kid_n {h : Hp} {i u q k : Nat} {l1 l2 : List (Nat × Vt d)} (C : Cut h sb τ i u q k l1 l2) (hn : ∀ v l, l2 ≠ (k, v) :: l) : kidF (l1 ++ l2) k = none := by
  obtain ⟨c1, c2, c3, c4, c5⟩ := C
  apply kidF_n
  intro p hp
  rcases List.mem_append.mp hp with z | z
  · have := c2 p z; omega
  · cases l2 with
    | nil => cases z
    | cons x l2 =>
      rcases List.mem_cons.mp z with y | y
      · rw [y]; intro w; exact hn x.2 l2 (by rw [← w])
      · have h1 := c3.2.2.mem p y; have h2 := c3.1; omega
/-- the marks -/
theorem pmk_lp {i u q nm : Nat} {R : Nat → Nat → Nat → Hp → Option Hp} (hF : 1000 ≤ F) :
    ∀ (r k nf : Nat) (h : Hp) (acc : List Bool) (l1 l2 L : List (Nat × Vt d)), L = l1 ++ l2 → CSq h τ j nm q → Cut h sb τ i u q k l1 l2 → k + r = tN τ q → WB h 311 501 310 acc → WP h sb → acc.length + r ≤ 20800 → r < nf →
    ∃ h', fX11_pack_2 F dd R nf nm (sb + 10 + i) 310 (zI k) h = fX11_pack_46 F dd R F nm (sb + 10 + i) 310 0 h' ∧ WB h' 311 501 310 (acc ++ pmk τ q L r k) ∧ WO h h' := by
  intro r
  induction r with
  | zero =>
    intro k nf h acc l1 l2 L eL S C hk B P hl hn
    obtain ⟨s0, s1, s2, s3, s4, s6, s5⟩ := S
    cases nf with
    | zero => omega
    | succ nf =>
      have h6 := C.2.2.2.2
      rw [fX11_pack_2, s4, if_pos ((zn_le (by omega) (by omega)).mpr (by omega))]
      exact ⟨h, rfl, by rw [show pmk τ q L 0 k = [] from rfl, List.append_nil]; exact B, WO.rf h⟩
  | succ r ih =>
    intro k nf h acc l1 l2 L eL S C hk B P hl hn
    have S0 := S
    obtain ⟨s0, s1, s2, s3, s4, s6, s5⟩ := S
    have h6 := C.2.2.2.2
    have n2 : nd_Ln (nm + 2) = 6 := nd_Kd_Ln (by omega)
    have ib : inb (zI ↑k) 6 = true := zn_inb (show k < 6 by omega) (by omega)
    obtain ⟨f1, f2, -⟩ := s5 k (by omega)
    cases nf with
    | zero => omega
    | succ nf =>
      rw [fX11_pack_2, s4, if_neg (show ¬ zI ↑(tN τ q) ≤ zI ↑k from fun z => by rw [zn_le (by omega) (by omega)] at z; omega), s2, nn_s, n2, ib, ck_t, zn_cl (by omega), f1, pmk]
      unfold fX11_pack_34 fX11_pack_38
      have nx : ∃ m1 m2, l1 ++ l2 = m1 ++ m2 ∧ Cut h sb τ i u q (k + 1) m1 m2 := by
        rcases C.or with ⟨v, l, e⟩ | hno
        · subst e
          exact ⟨_, _, by simp, (C.yes (F := F) (dd := dd) hF).2.2.1⟩
        · exact ⟨_, _, rfl, (C.no (F := F) (dd := dd) hno hF (by omega)).2⟩
      obtain ⟨m1, m2, em, C2⟩ := nx
      by_cases c0 : tF τ q k = 0
      · rw [if_pos (show zI ↑(tF τ q k) = 0 by rw [c0]; rfl), if_pos c0, bn_d, zn_succ]
        exact ih (k + 1) nf h acc m1 m2 L (eL.trans em) S0 C2 (by omega) B P (by omega) (by omega)
      · rw [if_neg (zn_ne 0 (v := 0) c0 rfl (by omega) (by omega)), if_neg c0]
        have fin : ∀ x : Bool, ∃ h', (cv (fX5_put F dd 310 (b2i x) 1 h) fun h1 => bn (zI ↑k + 1) fun v1 => fX11_pack_2 F dd R nf nm (sb + 10 + i) 310 v1 h1) = fX11_pack_46 F dd R F nm (sb + 10 + i) 310 0 h' ∧ WB h' 311 501 310 (acc ++ x :: pmk τ q L r (k + 1)) ∧ WO h h' := by
          intro x
          obtain ⟨h1, e1, B1, O1⟩ := put_ok (F := F) (d := dd) (v := b2i x) (n := 1) B P.2.1 (by omega) (by omega) hF
          rw [show (1 : Int32) = zI ↑(1 : Nat) from rfl, e1, cv_s, bn_d, zn_add]
          have eb : btL (b2i x) 1 = [x] := by cases x <;> decide
          rw [eb] at B1
          obtain ⟨h2, e2, B2, O2⟩ := ih (k + 1) nf h1 _ m1 m2 L (eL.trans em) (S0.wo O1) (C2.wo O1 P.1) (by omega) B1 (P.fr O1) (by simp; omega) (by omega)
          refine ⟨h2, e2, ?_, O1.tr O2⟩
          rw [List.append_assoc] at B2
          exact B2
        rcases C.or with ⟨v, l, e⟩ | hno
        · subst e
          rw [isW_yes C S0 hF, ca_s, eL, kidF_y _ _ C.2.1, ← eL]
          have := fin (!lft τ q (k, v))
          dsimp only
          cases hz : lft τ q (k, v) with
          | true => rw [hz] at this; rw [if_pos (show b2i (!true) = 0 from rfl)]; exact this
          | false => rw [hz] at this; rw [if_neg (show ¬ b2i (!false) = 0 by decide)]; exact this
        · rw [isW_no C hno hF (by omega), ca_s, if_pos rfl, eL, C.kid_n hno, ← eL]
          exact fin false
/-- the components -/
theorem psq_lp {i u q nm : Nat} {R : Nat → Nat → Nat → Hp → Option Hp} (RO : PkOK F τ sb R j d) (hj : j ≤ 200) (hF : 1000 ≤ F) :
    ∀ (r k nf : Nat) (h : Hp) (acc : List Bool) (l1 l2 : List (Nat × Vt d)), CSq h τ j nm q → Cut h sb τ i u q k l1 l2 → k + r = tN τ q → (∀ p ∈ l2, VOk τ d p.2 (tC τ q p.1)) → WB h 311 501 310 acc → WP h sb → acc.length + 60 * szs l2 + 8 * ozs l2 ≤ 20800 → szs l2 ≤ 100 → u + ozs l1 + ozs l2 ≤ 120 → r < nf →
    ∃ h', fX11_pack_46 F dd R nf nm (sb + 10 + i) 310 (zI k) h = some h' ∧ WB h' 311 501 310 (pks (fun p acc => if lft τ q p then acc else pk τ d p.2 (tC τ q p.1) acc) l2 acc) ∧ WO h h' := by
  intro r
  induction r with
  | zero =>
    intro k nf h acc l1 l2 S C hk hv B P hl hz hu hn
    obtain ⟨s0, s1, s2, s3, s4, s6, s5⟩ := S
    cases nf with
    | zero => omega
    | succ nf =>
      have h6 := C.2.2.2.2
      rw [fX11_pack_46, s4, if_pos ((zn_le (by omega) (by omega)).mpr (by omega))]
      have : l2 = [] := by
        cases l2 with
        | nil => rfl
        | cons p l2 => have := C.2.2.1.2.1; have := C.2.2.1.1; omega
      rw [this]
      exact ⟨h, rfl, B, WO.rf h⟩
  | succ r ih =>
    intro k nf h acc l1 l2 S C hk hv B P hl hz hu hn
    have S0 := S
    obtain ⟨s0, s1, s2, s3, s4, s6, s5⟩ := S
    have h6 := C.2.2.2.2
    have n1 : nd_Ln (nm + 1) = 6 := nd_Kd_Ln (by omega)
    have ib : inb (zI ↑k) 6 = true := zn_inb (show k < 6 by omega) (by omega)
    cases nf with
    | zero => omega
    | succ nf =>
      rw [fX11_pack_46, s4, if_neg (show ¬ zI ↑(tN τ q) ≤ zI ↑k from fun z => by rw [zn_le (by omega) (by omega)] at z; omega)]
      rcases C.or with ⟨v, l, e⟩ | hno
      · subst e
        obtain ⟨e1, cv, C2, hk2⟩ := C.yes (F := F) (dd := dd) hF
        rw [isW_yes C S0 hF, ca_s, pks]
        rw [szs_cons, ozs_cons] at hl
        rw [szs_cons] at hz
        rw [ozs_cons] at hu
        dsimp only at hl hz hu
        have o1 : ozs (l1 ++ [(k, v)]) = ozs l1 + oz d v := by rw [ozs_app, ozs_cons, ozs_nil]; rfl
        unfold fX11_pack_78
        cases hl2 : lft τ q (k, v) with
        | true =>
          rw [if_pos (show b2i (!true) = 0 from rfl), bn_d, zn_succ, if_pos rfl]
          exact ih (k + 1) nf h acc _ l S0 C2 (by omega) (fun p hp => hv p (List.mem_cons_of_mem _ hp)) B P (by omega) (by omega) (by omega) (by omega)
        | false =>
          rw [if_neg (show ¬ b2i (!false) = 0 by decide), s1, nn_s, n1, ib, ck_t, bn_d, zn_cl (by omega), e1, ca_s, if_neg (show ¬ (false = true) by decide)]
          obtain ⟨f1, f2, f3, cc, c7, c8, wk⟩ := s5 k hk2
          rw [c7, nn_s, nn_s]
          have vv := hv _ (List.mem_cons_self)
          have pl := pk_len d j (tC τ q k) v acc vv wk hj
          obtain ⟨h1, e2, B1, O1⟩ := RO h cc (tC τ q k) v _ _ acc c8 wk vv cv B P (by omega) (by omega) (by omega)
          rw [e2, cv_s, bn_d, zn_succ]
          obtain ⟨h2, e3, B2, O2⟩ := ih (k + 1) nf h1 _ _ l (S0.wo O1) (C2.wo O1 P.1) (by omega) (fun p hp => hv p (List.mem_cons_of_mem _ hp)) B1 (P.fr O1) (by omega) (by omega) (by omega) (by omega)
          exact ⟨h2, e3, B2, O1.tr O2⟩
      · obtain ⟨e1, C2⟩ := C.no (F := F) (dd := dd) hno hF (by omega)
        rw [isW_no C hno hF (by omega), ca_s, if_pos rfl]
        unfold fX11_pack_78
        rw [bn_d, zn_succ]
        exact ih (k + 1) nf h acc _ l2 S0 C2 (by omega) hv B P hl hz hu (by omega)
/-- the items -/
theorem pls_lp {q nm c : Nat} {R : Nat → Nat → Nat → Hp → Option Hp} (RO : PkOK F τ sb R j d) (hj : j ≤ 200) (w2 : WFt τ j (tC τ q 0)) :
    ∀ (l : List (Nat × Vt d)) (o : Option Nat) (jj u nf : Nat) (h : Hp) (acc : List Bool), gP h 1501 nm = some c → CTy h τ j c (tC τ q 0) → Ch h sb (CV h sb τ d) o l jj u → (∀ p ∈ l, VOk τ d p.2 (tC τ q 0)) → WB h 311 501 310 acc → WP h sb → acc.length + 60 * szs l + 8 * ozs l ≤ 20800 → szs l ≤ 100 → u + ozs l ≤ 120 → l.length < nf →
    ∃ h', fX15_pack_17 F dd R nf nm 310 o h = some h' ∧ WB h' 311 501 310 (pks (fun p acc => pk τ d p.2 (tC τ q 0) acc) l acc) ∧ WO h h' := by
  intro l
  induction l with
  | nil =>
    intro o jj u nf h acc c4 c5 C hv B P hl hz hu hn
    cases nf with
    | zero => omega
    | succ nf =>
      have : o = none := C
      rw [fX15_pack_17, this, oc_n]
      exact ⟨h, rfl, B, WO.rf h⟩
  | cons p l ih =>
    intro o jj u nf h acc c4 c5 C hv B P hl hz hu hn
    cases nf with
    | zero => omega
    | succ nf =>
      obtain ⟨d1, d2, d3, d4⟩ := C
      rw [List.length_cons] at hn
      rw [szs_cons, ozs_cons] at hl
      rw [szs_cons] at hz
      rw [ozs_cons] at hu
      have vv := hv _ (List.mem_cons_self)
      have pl := pk_len d j (tC τ q 0) p.2 acc vv w2 hj
      rw [fX15_pack_17, d1, oc_s, bn_d, c4, nn_s, pks]
      obtain ⟨h1, e1, B1, O1⟩ := RO h c _ p.2 _ _ acc c5 w2 vv d3 B P (by omega) (by omega) (by omega)
      rw [e1, cv_s, bn_d, O1.1]
      obtain ⟨h2, e2, B2, O2⟩ := ih _ _ _ nf h1 _ (by rw [O1.1]; exact c4) (c5.fr O1.ty) (d4.wo O1 P.1) (fun x hx => hv x (List.mem_cons_of_mem _ hx)) B1 (P.fr O1) (by omega) (by omega) (by omega) (by omega)
      exact ⟨h2, e2, B2, O1.tr O2⟩
theorem pk_tag {j t d : Nat} (w : WFt τ (j + 1) t) (k : tK τ t = 10) (hj : j < 200) (v : Vt d) (acc : List Bool) : pk τ d v t acc = pk τ d v (tC τ t 0) acc := by
  cases d with
  | zero => rfl
  | succ d => unfold pk; rw [bas_tag w k hj]
theorem CSz.wo {h h' : Hp} {o t : Nat} (c : CSz h τ o t) (s : WO h h') : CSz h' τ o t := c.fr s.ty
theorem pack_ok (hF : 1000 ≤ F) : ∀ (j d dd : Nat), j ≤ dd → j < 200 → PkOK F τ sb (v_pack F dd) j d := by
  intro j
  induction j with
  | zero => intro d dd _ _ h nm t v i u acc c; exact c.elim
  | succ j ih =>
    intro d dd hdd hj h nm t v i u acc c w vo cw B P hl hz hu
    cases d with
    | zero => exact vo.elim
    | succ d =>
    cases dd with
    | zero => omega
    | succ dd =>
      unfold v_pack
      have IH := ih d dd (by omega) (by omega)
      have IH1 := ih (d + 1) dd (by omega) (by omega)
      have c0 := c
      obtain ⟨al, c⟩ := c
      by_cases k10 : tK τ t = 10
      · rcases c with ⟨k2, -⟩ | ⟨k2, -⟩ | ⟨k2, -⟩ | ⟨k2, -⟩ | ⟨k2, -⟩ | ⟨k2, -⟩ | ⟨k2, -⟩ | ⟨k2, c1, c2, c3, x, c4, c5⟩
        all_goals first | (exfalso; omega) | skip
        have w2 := (w.tag k10).2
        have vo2 : VOk τ (d + 1) v (tC τ t 0) := vo.bas (bas_tag w k10 (by omega))
        rw [if_neg (by omega), if_neg (by omega), if_neg (by omega), if_neg (by omega), if_neg (by omega), if_pos c1, pk_tag w k10 (by omega)]
        unfold fX16_pack
        rw [c4, nn_s]
        obtain ⟨h1, e1, B1, O1⟩ := IH1 h x _ v i u acc c5 w2 vo2 cw B P hl hz hu
        rw [e1, cv_s]
        exact ⟨h1, rfl, B1, O1⟩
      · have hv := vo.1
        rw [bas_ne k10] at hv
        have hvo := vo.2
        have cvN := cw.1.2.2.1
        rw [hv] at hvo
        have cv0 := cw.2.2
        rw [sz_s] at hz
        rw [oz_s] at hu
        rw [sz_s, oz_s] at hl
        unfold pk
        rw [bas_ne k10]
        rcases c with ⟨k, c⟩ | ⟨k, c⟩ | ⟨k, c⟩ | ⟨k, c1, c2, c3, c4⟩ | ⟨k, c1, -⟩ | ⟨k, c1, c2, c3, x, c4, c5⟩ | ⟨k, c1, ⟨c2, c3⟩, c4, c5⟩ | ⟨k, -⟩
        · rw [if_neg (show ¬ tK τ t = 9 by omega), if_neg (show ¬ tK τ t = 6 by omega), if_neg (show ¬ tK τ t = 7 by omega), if_neg (show ¬ tK τ t = 4 by omega), if_neg (show ¬ tK τ t = 5 by omega), if_pos k, if_pos c.1]
          unfold fX9_pack
          obtain ⟨h1, e1, B1, O1⟩ := pn_ok (F := F) (dd := dd) (x := vN v) (lo := 0) (hi := 1) (N := 1) B P.2.1 (by decide) (by omega) (by omega) hF
          rw [c.2.2.2.1, if_neg (show ¬ b2i true = 0 by decide), cvN, (c.2.2.2.2 rfl).1, (c.2.2.2.2 rfl).2, e1, cv_s]
          refine ⟨h1, rfl, ?_, O1⟩
          rw [Int32.sub_zero] at B1
          exact B1
        · rw [if_neg (show ¬ tK τ t = 9 by omega), if_neg (show ¬ tK τ t = 6 by omega), if_neg (show ¬ tK τ t = 7 by omega), if_neg (show ¬ tK τ t = 4 by omega), if_pos k, if_pos c.1]
          unfold fX9_pack
          obtain ⟨h1, e1, B1, O1⟩ := pn_ok (F := F) (dd := dd) (x := vN v) (lo := 0) (hi := 0) (N := 0) B P.2.1 (by decide) (by omega) (by omega) hF
          rw [c.2.2.2.1, if_neg (show ¬ b2i true = 0 by decide), cvN, (c.2.2.2.2 rfl).1, (c.2.2.2.2 rfl).2, e1, cv_s]
          refine ⟨h1, rfl, ?_, O1⟩
          have : prn 0 (vN v - 0) acc = acc := by
            show acc ++ btL (vN v - 0) 0 = acc
            exact List.append_nil acc
          rw [this] at B1
          exact B1
        · rw [if_neg (show ¬ tK τ t = 9 by omega), if_neg (show ¬ tK τ t = 6 by omega), if_neg (show ¬ tK τ t = 7 by omega), if_neg (show ¬ tK τ t = 4 by omega), if_neg (show ¬ tK τ t = 5 by omega), if_neg (show ¬ tK τ t = 1 by omega), if_pos c.1]
          have ok : okI τ t := by
            rcases w with ⟨k2, -⟩ | ⟨k2, -, w1⟩ | ⟨k2, -⟩ | ⟨k2, -⟩ | ⟨k2, -⟩ | ⟨k2, -⟩ | ⟨k2, -⟩ | ⟨k2, -⟩ <;> first | (exfalso; omega) | exact w1
          unfold fX9_pack
          rw [c.2.2.2.1]
          cases hB : tB τ t with
          | true =>
            obtain ⟨lo, N, k1, k2, k3, k4, k5⟩ := ok hB
            have hs : spn τ t = N := by unfold spn; rw [k1, k2, zI_sub, show lo + ↑N - lo = (N : Int) by omega, zn_cl (by omega)]
            obtain ⟨h1, e1, B1, O1⟩ := pn_ok (F := F) (dd := dd) (x := vN v) (lo := tLo τ t) (hi := tHi τ t) (N := N) B P.2.1 (by rw [k1, k2, zI_sub]; congr 1; omega) k5 (by omega) hF
            rw [if_neg (show ¬ b2i true = 0 by decide), cvN, (c.2.2.2.2 hB).1, (c.2.2.2.2 hB).2, e1, cv_s, if_pos rfl, hs]
            exact ⟨h1, rfl, B1, O1⟩
          | false =>
            have bl := byO_le (vN v)
            obtain ⟨h1, e1, B1, O1⟩ := pn_ok (F := F) (dd := dd) (x := zI ↑(byO (vN v))) (lo := 0) (hi := 255) (N := 255) B P.2.1 (by decide) (by omega) (by omega) hF
            have pl := prn_len 255 (zI ↑(byO (vN v)) - 0) acc
            obtain ⟨h2, e2, B2, O2⟩ := pint_ok (F := F) (dd := dd) (v := vN v) B1 (P.fr O1).2.1 (by omega) hF
            rw [if_pos (show b2i false = 0 from rfl), cvN, byO_ok, ca_s, e1, cv_s, O1.2.2.2.1 _ _ (by omega), cvN, e2, cv_s, if_neg (show ¬ (false = true) by decide)]
            refine ⟨h2, rfl, ?_, O1.tr O2⟩
            rw [btB_ibs _ _ (by omega), Int32.sub_zero] at B2
            rw [zI_nat]
            exact B2
        · rw [if_neg (show ¬ tK τ t = 9 by omega), if_neg (show ¬ tK τ t = 6 by omega), if_neg (show ¬ tK τ t = 7 by omega), if_pos k, if_neg (show ¬ nd_Kd nm = 6 by omega), if_neg (show ¬ nd_Kd nm = 7 by omega), if_neg (show ¬ nd_Kd nm = 8 by omega), if_pos c1]
          rcases hvo with ⟨k2, -⟩ | ⟨k2, -⟩ | ⟨k2, o1, o2, o3, o4⟩ | ⟨k2, -⟩ | ⟨k2, -⟩ | ⟨k2, -⟩ | ⟨k2, -⟩
          all_goals first | (exfalso; omega) | skip
          have ok : okS τ t := by
            rcases w with ⟨k2, -⟩ | ⟨k2, -⟩ | ⟨k2, -, w1⟩ | ⟨k2, -⟩ | ⟨k2, -⟩ | ⟨k2, -⟩ | ⟨k2, -⟩ | ⟨k2, -⟩ <;> first | (exfalso; omega) | exact w1
          unfold fX13_pack fX13_pack_33 fX13_writeContent
          obtain ⟨h1, e1, B1, O1⟩ := pc_ok (F := F) (dd := dd) (x := vN v) c4 ok B P.2.1 (by omega) hF
          have pl := pcn_len (τ := τ) t (vN v) acc
          have fin : ∀ (h1 : Hp) (acc1 : List Bool), WO h h1 → WB h1 311 501 310 acc1 → acc1.length + 8 * (vO v).length ≤ 20800 → ∃ h', (cv (fX13_writeContent_2 F dd F (sb + 10 + i) 310 0 h1) fun h1 => some h1) = some h' ∧ WB h' 311 501 310 ((vO v).foldl (fun acc x => acc ++ btL (Int32.ofNat x) 8) acc1) ∧ WO h h' := by
            intro h1 acc1 O1 B1 hl1
            have cv1 := cw.wo O1 P.1
            obtain ⟨h2, e2, B2, O2⟩ := octw_lp (F := F) (dd := dd) (sb := sb) (pn := sb + 10 + i) (u := u) (os := vO v) P.1 (by omega) (vO v).length 0 F h1 acc1 B1 (P.fr O1) (cv1.1.2.2.1.trans o1) cv1.1.2.2.2 cv1.2.1 (by omega) hl1 (by omega) hF
            rw [show (0 : Int32) = zI ↑(0 : Nat) from rfl, e2, cv_s]
            refine ⟨h2, rfl, ?_, O1.tr O2⟩
            rw [btB_fold]
            exact B2
          rw [c3, nn_s, cvN, e1, cv_s, O1.2.2.2.1 _ _ (by omega), cvN, O1.1]
          by_cases zn : (vO v).length = 0
          · have e0 : vN v = 0 := by rw [o1, zn]; rfl
            rw [if_pos (show vN v ≤ 0 by rw [e0]; exact Int32.le_refl _), if_neg (show ¬ (tB τ t = true ∧ ¬ vN v = 0 ∧ sho τ t = false) from fun y => y.2.1 e0)]
            exact fin h1 _ O1 B1 (by omega)
          · have e0 : ¬ vN v = 0 := by rw [o1]; exact zn_ne 0 (v := 0) zn rfl (by omega) (by omega)
            have e0' : ¬ vN v ≤ 0 := by rw [o1]; exact fun y => by have := (zn_le (b := 0) (by omega) (by omega)).mp y; omega
            rw [if_neg e0', c3, nn_s, shs_ok (c4.wo O1), ca_s]
            by_cases sh : (tB τ t && sho τ t) = true
            · rw [sh, if_neg (show ¬ b2i true = 0 by decide)]
              rw [Bool.and_eq_true] at sh
              rw [if_neg (show ¬ (tB τ t = true ∧ ¬ vN v = 0 ∧ sho τ t = false) from fun y => by rw [sh.2] at y; cases y.2.2)]
              exact fin h1 _ O1 B1 (by omega)
            · rw [Bool.eq_false_iff.mpr sh, if_pos (show b2i false = 0 from rfl)]
              obtain ⟨h2, e2, B2, O2⟩ := ali_ok (F := F) (d := dd) B1 (by omega)
              have fl := fil_len (pcn τ t (vN v) acc)
              have a8 := al8_le (pcn τ t (vN v) acc).length
              rw [e2, cv_s]
              cases wB : tB τ t with
              | false =>
                rw [if_neg (fun y => by cases y.1)]
                rw [fil_al (pl.2.2 wB)] at B2
                exact fin h2 _ (O1.tr O2) B2 (by omega)
              | true =>
                rw [wB, Bool.true_and] at sh
                rw [if_pos ⟨rfl, e0, Bool.eq_false_iff.mpr sh⟩]
                exact fin h2 _ (O1.tr O2) B2 (by omega)
        · rw [if_neg (show ¬ tK τ t = 9 by omega), if_pos k, if_neg (show ¬ nd_Kd nm = 6 by omega), if_pos c1]
          rcases hvo with ⟨k2, -⟩ | ⟨k2, -⟩ | ⟨k2, -⟩ | ⟨k2, -⟩ | ⟨k2, o1, o2, o3, o4⟩ | ⟨k2, -⟩ | ⟨k2, -⟩
          all_goals first | (exfalso; omega) | skip
          unfold fX11_pack
          have S := CSq.of c0 w k
          have h6 := (w.seq k).1
          have C := Cut.all cw o2 o3 h6
          have pm := pmk_len (τ := τ) t (vK v) (tN τ t) 0
          obtain ⟨h1, e1, B1, O1⟩ := pmk_lp (F := F) (dd := dd) (R := v_pack F dd) hF (tN τ t) 0 F h acc [] (vK v) (vK v) rfl S C (by omega) B P (by omega) (by omega)
          rw [show (0 : Int32) = zI ↑(0 : Nat) from rfl, e1, show (0 : Int32) = zI ↑(0 : Nat) from rfl]
          obtain ⟨h2, e2, B2, O2⟩ := psq_lp (F := F) (dd := dd) IH (by omega) hF (tN τ t) 0 F h1 _ [] (vK v) (S.wo O1) (C.wo O1 P.1) (by omega) o4 B1 (P.fr O1) (by rw [List.length_append]; omega) (by omega) (by rw [ozs_nil]; omega) (by omega)
          exact ⟨h2, e2, B2, O1.tr O2⟩
        · rw [if_neg (show ¬ tK τ t = 9 by omega), if_neg (show ¬ tK τ t = 6 by omega), if_pos k, if_neg (show ¬ nd_Kd nm = 6 by omega), if_neg (show ¬ nd_Kd nm = 7 by omega), if_neg (show ¬ nd_Kd nm = 8 by omega), if_neg (show ¬ nd_Kd nm = 9 by omega), if_pos c1]
          rcases hvo with ⟨k2, -⟩ | ⟨k2, -⟩ | ⟨k2, -⟩ | ⟨k2, -⟩ | ⟨k2, -⟩ | ⟨k2, o1, o2, o3, o4, o5⟩ | ⟨k2, -⟩
          all_goals first | (exfalso; omega) | skip
          unfold fX15_pack
          obtain ⟨h1, e1, B1, O1⟩ := pc_ok (F := F) (dd := dd) (x := vN v) c3 (w.lst k).1 B P.2.1 (by omega) hF
          have pl := pcn_len (τ := τ) t (vN v) acc
          have hln := szs_len (vK v) ⟨_, o5⟩
          rw [o2] at cv0 hu
          rw [c2, nn_s, cvN, e1, cv_s, bn_d, O1.1]
          obtain ⟨h2, e2, B2, O2⟩ := pls_lp (F := F) (dd := dd) (q := t) IH (by omega) (w.lst k).2 (vK v) _ _ _ F h1 _ (by rw [O1.1]; exact c4) (c5.fr O1.ty) (cv0.wo O1 P.1) o5 B1 (P.fr O1) (by omega) (by omega) (by simp at hu ⊢; omega) (by omega)
          exact ⟨h2, e2, B2, O1.tr O2⟩
        · rw [if_pos k, if_neg (show ¬ nd_Kd nm = 6 by omega), if_neg (show ¬ nd_Kd nm = 7 by omega), if_pos c1]
          rcases hvo with ⟨k2, -⟩ | ⟨k2, -⟩ | ⟨k2, -⟩ | ⟨k2, -⟩ | ⟨k2, -⟩ | ⟨k2, -⟩ | ⟨k2, o1, kk, w9, o2, o3, o4, o5⟩
          all_goals first | (exfalso; omega) | skip
          have w9' := w.cho k
          obtain ⟨x, c6, c7⟩ := c5 kk o2
          rw [o4, o1] at cv0
          rw [o4] at hz hu hl ⊢
          rw [szs_cons] at hz hl
          rw [ozs_cons] at hu hl
          dsimp only at hz hu hl
          have rl := rnk_lt (τ := τ) t kk o2
          unfold fX12_pack
          obtain ⟨h1, e1, B1, O1⟩ := pn_ok (F := F) (dd := dd) (x := zI ↑(rnk τ t kk)) (lo := 0) (hi := zI ↑(tN τ t - 1)) (N := tN τ t - 1) B P.2.1 (by rw [show (0 : Int32) = zI ↑(0 : Nat) from rfl, zn_sub (by omega)]; rfl) (by omega) (by omega) hF
          have pl := prn_len (tN τ t - 1) (zI ↑(rnk τ t kk) - 0) acc
          rw [cvN, o3, rnk_ok c0 w k o2 (by omega) hF, ca_s, c4, zn_pred (by omega), e1, cv_s, O1.1, c2, nn_s, O1.2.2.2.1 _ _ (by omega), cvN, o3, nd_Kd_Ln (by omega), zn_inb (show kk < 6 by omega) (by omega), ck_t, bn_d, zn_cl (by omega), bn_d, O1.2.2.1, c6, nn_s, cv0.1, nn_s]
          obtain ⟨h2, e2, B2, O2⟩ := IH h1 x _ w9 _ _ _ (c7.fr O1.ty) (w9'.2.2 kk o2) o5 (cv0.2.2.1.wo O1 P.1) B1 (P.fr O1) (by omega) (by omega) (by rw [o1] at hu; simp only [List.length_nil] at hu ⊢; omega)
          rw [e2, cv_s]
          refine ⟨h2, rfl, ?_, O1.tr O2⟩
          rw [Int32.sub_zero] at B2
          rw [zI_nat, pks, pks]
          exact B2
        · omega
end Pl
