/-! THE CLASS WRITES (3): DER -/
set_option maxRecDepth 100000
section Cw
variable {sb F dd d j : Nat} {τ : Tb}
/-- the writer and the store that it writes from -/
def WP (h : Hp) (sb : Nat) : Prop := (sb = 1000 ∨ sb = 2000) ∧ gP h 500 310 = some 311 ∧ gP h 502 310 = some sb ∧ gP h 302 sb = some (sb + 3)
theorem WP.fr {h h' : Hp} (p : WP h sb) (o : WO h h') : WP h' sb := by
  unfold WP at p ⊢
  rw [o.1]; exact p
theorem WO.ty {h h' : Hp} (o : WO h h') : sameTy h h' := by
  refine ⟨fun a q => by rw [o.2.1]; exact q, fun f a hf _ => o.2.2.2.1 f a (fun w => ?_), fun f a _ _ => by rw [o.1], fun a i ha _ => o.2.2.2.2 a i (by omega), fun a i _ _ => by rw [o.2.2.1]⟩
  rw [w.1] at hf
  revert hf
  decide
theorem WO.pf {h h' : Hp} {m : Nat} (o : WO h h') (hs : sb = 1000 ∨ sb = 2000) : PF sb m h h' := fun i _ f => ⟨o.2.2.2.1 f _ (by omega), by rw [o.1]⟩
theorem CV.wo {h h' : Hp} {v : Vt d} {i u : Nat} (c : CV h sb τ d v i u) (o : WO h h') (hs : sb = 1000 ∨ sb = 2000) : CV h' sb τ d v i u :=
  c.fr2 (fun x q => by rw [o.2.1]; exact q) (o.pf (m := i + sz d v) hs) (u1 := u + oz d v) (fun q _ => o.2.2.2.2 _ _ (by omega)) (Nat.le_refl _) (Nat.le_refl _)
theorem Ch.wo {h h' : Hp} {l : List (Nat × Vt d)} {x : Option Nat} {i u : Nat} (c : Ch h sb (CV h sb τ d) x l i u) (o : WO h h') (hs : sb = 1000 ∨ sb = 2000) : Ch h' sb (CV h' sb τ d) x l i u :=
  Ch.fr3 (m1 := i + szs l) (u1 := u + ozs l) (fun v i u q => sz_pos q) (fun v i u q _ _ => q.wo o hs) (o.pf hs) l x i u c (Nat.le_refl _) (Nat.le_refl _)
theorem Cut.wo {h h' : Hp} {i u q k : Nat} {l1 l2 : List (Nat × Vt d)} (c : Cut h sb τ i u q k l1 l2) (o : WO h h') (hs : sb = 1000 ∨ sb = 2000) : Cut h' sb τ i u q k l1 l2 := by
  refine ⟨?_, c.2⟩
  rw [o.1]
  exact c.1.wo o hs
theorem CSq.wo {h h' : Hp} {n nm t : Nat} (c : CSq h τ n nm t) (o : WO h h') : CSq h' τ n nm t := by
  obtain ⟨s0, s1, s2, s3, s4, s6, s5⟩ := c
  refine ⟨s0, by rw [o.1]; exact s1, by rw [o.1]; exact s2, by rw [o.1]; exact s3, by rw [o.2.2.2.1 _ _ (by omega)]; exact s4, s6, fun k hk => ?_⟩
  obtain ⟨f1, f2, f3, c, c7, c8, wk⟩ := s5 k hk
  exact ⟨by rw [o.2.2.2.2 _ _ (by omega)]; exact f1, f2, fun q => by rw [o.2.2.2.2 _ _ (by omega)]; exact f3 q, c, by rw [o.2.2.1]; exact c7, c8.fr o.ty, wk⟩
theorem zc_of {y : Int32} {n : Nat} (h : y = zI n) (hn : n < 2147483648) : zI ↑y.toNatClampNeg = y := by rw [h, zn_cl hn]
/-- a header -/
theorem hdr_ok {h : Hp} {acc : List Bool} {x n : Nat} (B : WB h 311 501 310 acc) (hp : gP h 500 310 = some 311) (hn : n ≤ 2600) (hln : acc.length + 8 * (hdr x n).length ≤ 20800) (hF : 1000 ≤ F) :
    ∃ h', fX5_header F dd 310 (zI x) (zI n) h = some h' ∧ WB h' 311 501 310 (acc ++ btB (hdr x n)) ∧ WO h h' := by
  have h43 : ∀ (h : Hp) (acc : List Bool), WB h 311 501 310 acc → gP h 500 310 = some 311 → acc.length + 8 ≤ 20800 → ∃ h', fX5_header_43 F dd 310 (zI n) h = some h' ∧ WB h' 311 501 310 (acc ++ btL (zI ↑(n % 256)) 8) ∧ WO h h' := by
    intro h acc B hp hl
    unfold fX5_header_43
    rw [show (255 : Int32) = zI ↑(255 : Nat) from rfl, zI_and, show (255 : Nat) = 2 ^ 8 - 1 from rfl, Nat.and_two_pow_sub_one_eq_mod]
    obtain ⟨h1, e1, B1, O1⟩ := add8_ok (F := F) (d := dd) (v := zI ((n % 2 ^ 8 : Nat) : Int)) B hp hl hF
    rw [e1, cv_s]
    exact ⟨h1, rfl, B1, O1⟩
  unfold fX5_header
  rw [hdr_len] at hln
  unfold hl at hln
  unfold hdr
  obtain ⟨h1, e1, B1, O1⟩ := add8_ok (F := F) (d := dd) (v := zI x) B hp (by split at hln <;> (try split at hln) <;> omega) hF
  rw [e1, cv_s]
  have hp1 : gP h1 500 310 = some 311 := by rw [O1.1]; exact hp
  have l1 : (acc ++ btL (zI ↑x) 8).length = acc.length + 8 := by rw [List.length_append, btL_len]
  by_cases c1 : 255 < n
  · rw [if_pos c1] at hln
    rw [if_neg (show ¬ zI ↑n ≤ 255 from fun w => by have := (zn_le (b := 255) (by omega) (by omega)).mp w; omega), if_pos c1]
    obtain ⟨h2, e2, B2, O2⟩ := add8_ok (F := F) (d := dd) (v := 130) B1 hp1 (by omega) hF
    rw [e2, cv_s]
    have hp2 : gP h2 500 310 = some 311 := by rw [O2.1]; exact hp1
    have l2 : ((acc ++ btL (zI ↑x) 8) ++ btL 130 8).length = acc.length + 16 := by rw [List.length_append, btL_len, l1]
    have e8 : zI ↑n >>> ((8 : Int32) &&& 31) = zI ↑(n / 256) := zn_shr (k := 8) (by omega) (by omega)
    obtain ⟨h3, e3, B3, O3⟩ := add8_ok (F := F) (d := dd) (v := zI ↑(n / 256)) B2 hp2 (by omega) hF
    rw [e8, e3, cv_s]
    have hp3 : gP h3 500 310 = some 311 := by rw [O3.1]; exact hp2
    have l3 : (((acc ++ btL (zI ↑x) 8) ++ btL 130 8) ++ btL (zI ↑(n / 256)) 8).length = acc.length + 24 := by rw [List.length_append, btL_len, l2]
    obtain ⟨h4, e4, B4, O4⟩ := h43 h3 _ B3 hp3 (by omega)
    refine ⟨h4, e4, ?_, ((O1.tr O2).tr O3).tr O4⟩
    simp only [List.append_assoc] at B4
    exact B4
  · rw [if_neg c1] at hln
    rw [if_pos (show zI ↑n ≤ 255 from (zn_le (b := 255) (by omega) (by omega)).mpr (by omega)), if_neg c1]
    by_cases c2 : 127 < n
    · rw [if_pos c2] at hln
      rw [if_neg (show ¬ zI ↑n ≤ 127 from fun w => by have := (zn_le (b := 127) (by omega) (by omega)).mp w; omega), if_pos c2]
      obtain ⟨h2, e2, B2, O2⟩ := add8_ok (F := F) (d := dd) (v := 129) B1 hp1 (by omega) hF
      rw [e2, cv_s]
      have hp2 : gP h2 500 310 = some 311 := by rw [O2.1]; exact hp1
      have l2 : ((acc ++ btL (zI ↑x) 8) ++ btL 129 8).length = acc.length + 16 := by rw [List.length_append, btL_len, l1]
      obtain ⟨h4, e4, B4, O4⟩ := h43 h2 _ B2 hp2 (by omega)
      refine ⟨h4, e4, ?_, (O1.tr O2).tr O4⟩
      simp only [List.append_assoc] at B4
      exact B4
    · rw [if_neg c2] at hln
      rw [if_pos (show zI ↑n ≤ 127 from (zn_le (b := 127) (by omega) (by omega)).mpr (by omega)), if_neg c2]
      obtain ⟨h4, e4, B4, O4⟩ := h43 h1 _ B1 hp1 (by omega)
      refine ⟨h4, e4, ?_, O1.tr O4⟩
      simp only [List.append_assoc] at B4
      exact B4
/-- the bytes of an int -/
theorem int_lp {v : Int32} : ∀ (n nf : Nat) (h : Hp) (acc : List Bool), WB h 311 501 310 acc → gP h 500 310 = some 311 → acc.length + 8 * n ≤ 20800 → n ≤ 4 → n < nf → 1000 ≤ F →
    ∃ h', fX5_putInt_9 F dd nf 310 v (zI (n - 1 : Int)) h = some h' ∧ WB h' 311 501 310 (acc ++ btB (ibs v n)) ∧ WO h h' := by
  intro n
  induction n with
  | zero =>
    intro nf h acc B hp hl hn hf _
    cases nf with
    | zero => omega
    | succ nf =>
      rw [fX5_putInt_9, if_pos (by decide)]
      exact ⟨h, rfl, by rw [show btB (ibs v 0) = [] from rfl, List.append_nil]; exact B, WO.rf h⟩
  | succ n ih =>
    intro nf h acc B hp hl hn hf hF
    cases nf with
    | zero => omega
    | succ nf =>
      have e0 : ((n + 1 : Nat) - 1 : Int) = ↑n := by omega
      have e8 : (8 : Int32) * zI ↑n = zI ↑(8 * n) := by rw [show (8 : Int32) = zI 8 from rfl, zI_mul]; congr 1
      rw [e0, fX5_putInt_9, if_neg (zn_nn n (by omega)), e8, zn_31 (show 8 * n < 32 by omega)]
      obtain ⟨h1, e1, B1, O1⟩ := add8_ok (F := F) (d := dd) (v := (v >>> zI ↑(8 * n)) &&& 255) B hp (by omega) hF
      rw [e1, cv_s, bn_d, show zI ↑n + (-1) = zI (n - 1 : Int) from by rw [show (-1 : Int32) = zI (-1) from rfl, zI_add]; rfl]
      obtain ⟨h2, e2, B2, O2⟩ := ih nf h1 _ B1 (by rw [O1.1]; exact hp) (by rw [List.length_append, btL_len]; omega) (by omega) (by omega) hF
      refine ⟨h2, e2, ?_, O1.tr O2⟩
      rw [List.append_assoc] at B2
      obtain ⟨m, m1, m2⟩ := and_255 (v >>> zI ↑(8 * n))
      have : btB (ibs v (n + 1)) = btL ((v >>> zI ↑(8 * n)) &&& 255) 8 ++ btB (ibs v n) := by
        show btL (zI ↑((v >>> Int32.ofNat (8 * n)) &&& 255).toNatClampNeg) 8 ++ btB (ibs v n) = _
        rw [zI_nat, zc_of m2 (by omega)]
      rw [this]
      exact B2
theorem pint_ok {h : Hp} {acc : List Bool} {v : Int32} (B : WB h 311 501 310 acc) (hp : gP h 500 310 = some 311) (hl : acc.length + 8 * byO v ≤ 20800) (hF : 1000 ≤ F) :
    ∃ h', fX5_putInt F dd 310 v h = some h' ∧ WB h' 311 501 310 (acc ++ btB (ibs v (byO v))) ∧ WO h h' := by
  have := byO_le v
  unfold fX5_putInt
  rw [byO_ok, ca_s, bn_d, show zI ↑(byO v) - 1 = zI (byO v - 1 : Int) from zI_sub _ 1]
  exact int_lp (byO v) F h acc B hp hl (by omega) (by omega) hF
/-- octets -/
theorem octw_lp {pn u : Nat} {os : List Nat} (hs : sb = 1000 ∨ sb = 2000) (hos : u + os.length ≤ 120) :
    ∀ (r k nf : Nat) (h : Hp) (acc : List Bool), WB h 311 501 310 acc → WP h sb → gI h 1701 pn = zI ↑os.length → gI h 1702 pn = zI u → (∀ (q x : Nat), os[q]? = some x → gA h (sb + 3) (u + q) = zI ↑x) → k + r = os.length → acc.length + 8 * r ≤ 20800 → r < nf → 1000 ≤ F →
    ∃ h', fX13_writeContent_2 F dd nf pn 310 (zI k) h = some h' ∧ WB h' 311 501 310 (acc ++ btB (os.drop k)) ∧ WO h h' := by
  have l3 : nd_Ln (sb + 3) = 120 := by rcases hs with q | q <;> rw [q] <;> rfl
  intro r
  induction r with
  | zero =>
    intro k nf h acc B P g1 g2 g3 hk hl hn hF
    cases nf with
    | zero => omega
    | succ nf =>
      rw [fX13_writeContent_2, g1, if_pos ((zn_le (by omega) (by omega)).mpr (by omega)), List.drop_eq_nil_of_le (by omega), btB_nil, List.append_nil]
      exact ⟨h, rfl, B, WO.rf h⟩
  | succ r ih =>
    intro k nf h acc B P g1 g2 g3 hk hl hn hF
    cases nf with
    | zero => omega
    | succ nf =>
      have hk2 : k < os.length := by omega
      have ek : os[k]? = some os[k] := List.getElem?_eq_getElem hk2
      rw [fX13_writeContent_2, g1, if_neg (show ¬ zI ↑os.length ≤ zI ↑k from fun z => by rw [zn_le (by omega) (by omega)] at z; omega), P.2.2.1, nn_s, P.2.2.2, nn_s, g2, zn_add, l3, zn_inb (show u + k < 120 by omega) (by omega), ck_t, zn_cl (by omega), g3 k _ ek]
      obtain ⟨h1, e1, B1, O1⟩ := add8_ok (F := F) (d := dd) (v := zI ↑os[k]) B P.2.1 (by omega) hF
      rw [e1, cv_s, bn_d, zn_succ]
      obtain ⟨h2, e2, B2, O2⟩ := ih (k + 1) nf h1 _ B1 (P.fr O1) (by rw [O1.2.2.2.1 _ _ (by omega)]; exact g1) (by rw [O1.2.2.2.1 _ _ (by omega)]; exact g2) (fun q x hq => by rw [O1.2.2.2.2 _ _ (by omega)]; exact g3 q x hq) (by omega) (by rw [List.length_append, btL_len]; omega) (by omega) hF
      refine ⟨h2, e2, ?_, O1.tr O2⟩
      rw [List.append_assoc] at B2
      rw [List.drop_eq_getElem_cons hk2, btB_c]
      exact B2
end Cw
