/-! THE MODEL WRITES (2): contents, an element -/
set_option maxRecDepth 100000
section Mc
variable {F dd E N : Nat} {τ : Tb}
theorem enc20 {i u : Nat} {os : List Nat} (hi : i < 100) (ho : u + os.length ≤ 240) (hoE : os.length ≤ E) : ∀ (k nf : Nat) (h : Hp), MP h → EN h E (os.drop k) → gA h 3025 i = zI ↑u → (∀ (q x : Nat), os[q]? = some x → gA h 3028 (u + q) = zI ↑x) → k ≤ os.length → k < nf →
    ∃ h', fX6_encode_20 F dd nf 3000 (zI ↑i) (zI ↑(4 : Nat)) (zI (k - 1 : Int)) h = fX6_encode_52 F dd 3000 (zI ↑i) (zI ↑(4 : Nat)) h' ∧ EN h' E os ∧ WW E 0 0 h h' ∧ gI h' 624 3000 = gI h 624 3000 ∧ ∀ j, gA h' 3016 j = gA h 3016 j := by
  intro k
  induction k with
  | zero =>
    intro nf h M e h5 h8 hk hn
    obtain ⟨f, rfl⟩ : ∃ f, nf = f + 1 := ⟨nf - 1, by omega⟩
    rw [fX6_encode_20, if_pos (by decide)]
    exact ⟨h, rfl, by rw [List.drop_zero] at e; exact e, WW.rf _ _ _ _, rfl, fun _ => rfl⟩
  | succ k ih =>
    intro nf h M e h5 h8 hk hn
    obtain ⟨f, rfl⟩ : ∃ f, nf = f + 1 := ⟨nf - 1, by omega⟩
    have hk2 : k < os.length := by omega
    have ek : os[k]? = some os[k] := List.getElem?_eq_getElem hk2
    have e0 : ((k + 1 : Nat) - 1 : Int) = ↑k := by omega
    obtain ⟨h1, m1, n1, w1, k1, -, k2⟩ := make_c (F := F) (dd := dd) M e (by rw [List.length_drop]; omega) os[k]
    have em : zI ↑k + (-1) = zI (k - 1 : Int) := by rw [show (-1 : Int32) = zI (-1) from rfl, zI_add]; rfl
    rw [e0, fX6_encode_20, if_neg (zn_nn k (by omega)), if_pos (show zI ↑(4 : Nat) = 4 from rfl), M.2, mp643, nn_s, M.2, mp640, nn_s, ln3025, zn_inb (show i < 100 by omega) (by omega), ck_t, zn_cl (by omega), h5, zn_add, ln3028, zn_inb (show u + k < 240 by omega) (by omega), ck_t, zn_cl (by omega), h8 k _ ek, m1, cv_s, bn_d, em]
    rw [← List.drop_eq_getElem_cons hk2] at n1
    obtain ⟨h2, e2, n2, w2, k3, k4⟩ := ih f h1 (w1.mp M) n1 (by rw [w1.2.2 _ _ (by omega) (by omega) (by omega) (by omega)]; exact h5) (fun q x hq => by rw [w1.2.2 _ _ (by omega) (by omega) (by omega) (by omega)]; exact h8 q x hq) (by omega) (by omega)
    exact ⟨h2, e2, n2, w1.tr w2 (Nat.le_refl _) (Nat.le_refl _) (by omega) (by omega) (by omega) (by omega), k3.trans k1, fun j => (k4 j).trans (k2 j)⟩
theorem enc54 {i : Nat} {num : Int32} (hi : i < 100) (hE : byO num ≤ E) : ∀ (r k nf : Nat) (h : Hp), MP h → EN h E (ibs num k) → gA h 3022 i = num → k + r = byO num → r < nf →
    ∃ h', fX6_encode_54 F dd nf 3000 (zI ↑i) (zI ↑(2 : Nat)) (zI ↑k) h = fX6_encode_97 F dd 3000 (zI ↑i) (zI ↑(2 : Nat)) h' ∧ EN h' E (ibs num (byO num)) ∧ WW E 0 0 h h' ∧ gI h' 624 3000 = gI h 624 3000 ∧ ∀ j, gA h' 3016 j = gA h 3016 j := by
  have bl := byO_le num
  intro r
  induction r with
  | zero =>
    intro k nf h M e h2 hk hn
    obtain ⟨f, rfl⟩ : ∃ f, nf = f + 1 := ⟨nf - 1, by omega⟩
    have : k = byO num := by omega
    rw [fX6_encode_54, M.2, mp637, nn_s, ln3022, zn_inb (show i < 100 by omega) (by omega), ck_t, zn_cl (by omega), h2, mbyO_ok, ca_s, if_pos ((zn_le (by omega) (by omega)).mpr (by omega))]
    exact ⟨h, rfl, by rw [← this]; exact e, WW.rf _ _ _ _, rfl, fun _ => rfl⟩
  | succ r ih =>
    intro k nf h M e h2 hk hn
    obtain ⟨f, rfl⟩ : ∃ f, nf = f + 1 := ⟨nf - 1, by omega⟩
    obtain ⟨m, hm1, hm2⟩ := and_255 (num >>> zI ↑(8 * k))
    have e8 : (8 : Int32) * zI ↑k = zI ↑(8 * k) := by rw [zl8, zn_mul]
    obtain ⟨h1, m1, n1, w1, k1, -, k2⟩ := make_c (F := F) (dd := dd) M e (by rw [ibs_len]; omega) m
    rw [fX6_encode_54, M.2, mp637, nn_s, ln3022, zn_inb (show i < 100 by omega) (by omega), ck_t, zn_cl (by omega), h2, mbyO_ok, ca_s, if_neg (show ¬ zI ↑(byO num) ≤ zI ↑k from fun z => by rw [zn_le (by omega) (by omega)] at z; omega), if_pos (show zI ↑(2 : Nat) = 2 from rfl), M.2, mp637, nn_s, ln3022, zn_inb (show i < 100 by omega) (by omega), ck_t, h2, e8, zn_31 (show 8 * k < 32 by omega), hm2, m1, cv_s, bn_d, zn_succ]
    have ib : ibs num (k + 1) = m :: ibs num k := by
      show ((num >>> Int32.ofNat (8 * k)) &&& 255).toNatClampNeg :: ibs num k = _
      rw [zI_nat, hm2, zn_cl (by omega)]
    rw [← ib] at n1
    obtain ⟨h3, e3, n3, w3, k3, k4⟩ := ih (k + 1) f h1 (w1.mp M) n1 (by rw [w1.2.2 _ _ (by omega) (by omega) (by omega) (by omega)]; exact h2) (by omega) (by omega)
    exact ⟨h3, e3, n3, w1.tr w3 (Nat.le_refl _) (Nat.le_refl _) (by omega) (by omega) (by omega) (by omega), k3.trans k1, fun j => (k4 j).trans (k2 j)⟩
/-- an element, when what is in it was written -/
theorem encode_ok {h : Hp} {d i u as t jt : Nat} {of : Int32} {v : Vt (d + 1)} {W0 : List Nat} (M : MP h) (T : MT h τ N) (p : PtI h i t of as (vN v) u) (ho : ∀ (q x : Nat), (vO v)[q]? = some x → gA h 3028 (u + q) = zI ↑x) (ht : t < N) (w : WFt τ jt t) (hj : jt ≤ 12) (vo : VOk τ (d + 1) v t) (bw : gA h 3026 i = zI ↑(sz (d + 1) v)) (hi : i + sz (d + 1) v ≤ 100) (st : gA h 3027 (i + sz (d + 1) v) = zI ↑E) (hu : u + (vO v).length ≤ 240)
    (e : EN h E W0) (hW : W0 = (if tK τ (vT v) = 6 ∨ tK τ (vT v) = 7 ∨ tK τ (vT v) = 9 then cnE τ (enc τ d) v (vT v) else [])) (hb : (enc τ (d + 1) v t none).length ≤ E) (hF : 1000 ≤ F) :
    ∃ h', fX6_encode F dd 3000 (zI ↑i) h = some h' ∧ EN h' E (enc τ (d + 1) v t none) ∧ WW E 0 0 h h' := by
  have hN := T.1
  have sp : 1 ≤ sz (d + 1) v := by rw [sz_s]; omega
  obtain ⟨h1, e1, U, TA, hb1, hlt⟩ := unw_ok (F := F) (d := dd) M T ht w hj (by omega)
  have hv := vo.1
  rw [← hv] at hb1 hlt
  have hvo := vo.2
  have M1 := U.mp M
  have T1 := U.mt T
  have w1 : WW E 0 0 h h1 := WW.uw U
  have n1 := e.uw U
  have A : ∀ y j, ¬ y = 3016 → ¬ y = 3017 → gA h1 y j = gA h y j := fun y j q1 q2 => U.2.2.2.2.1 y j q1 q2
  obtain ⟨⟨a1, -⟩, -⟩ := T1.2 (vT v) hlt
  have bO : fX6_baseOf F dd 3000 (zI ↑i) h = some (zI ↑(vT v), h1) := by
    unfold fX6_baseOf
    simp (disch := omega) only [mp607, mp608, mp609, mp611, mp612, mp613, mp614, mp615, mp616, mp617, mp618, mp619, mp620, mp621, mp622, mp625, mp626, mp631, mp632, mp633, mp636, mp637, mp638, mp639, mp640, mp641, mp642, mp643, mp645, mp646, mp650, mp651, mp652, mp653, mp654, mp655, mp656, mp657, mp658, ln3001, ln3002, ln3003, ln3004, ln3005, ln3006, ln3007, ln3008, ln3009, ln3010, ln3011, ln3012, ln3013, ln3014, ln3015, ln3016, ln3017, ln3018, ln3019, ln3020, ln3021, ln3022, ln3023, ln3024, ln3025, ln3026, ln3027, ln3028, ln3029, ln3030, ln3031, ln3032, ln3033, ln3034, ln3035, ln3036, ln3037, ln3038, ln3039, ck_t, nn_s, bn_d, ca_s, cv_s, oc_n, oc_s, cx_i, cx_r, cy_i, cy_r, gI_sI, gI_sP, gI_sA, gI_sR, gI_sJ, gI_nw, gI_nx, gP_sI, gP_sP, gP_sA, gP_sR, gP_sJ, gP_nw, gP_nx, gA_sI, gA_sP, gA_sA, gA_sR, gA_sJ, gA_nw, gA_nx, gR_sI, gR_sP, gR_sA, gR_sR, gR_sJ, gR_nw, gR_nx, reduceCtorEq, Nat.reduceEqDiff, or_self, or_true, true_or, or_false, false_or, eq_self, and_self, and_true, true_and, and_false, false_and, if_true, if_false, ↓reduceIte, ne_eq, not_true_eq_false, not_false_eq_true, zl0, zl1, zl2, zl3, zl4, zl5, zl6, zl7, zl8, zl9, zl10, zl12, zl15, zl16, zl20, zl31, zl32, zl48, zl97, zl99, zl100, zl120, zl127, zl128, zl129, zl130, zl137, zl150, zl160, zl169, zl254, zl255, zl256, zl4000, zl65535, zl65536, if_pos, if_neg, zn_inb, zn_cl, zn_eq, zn_lt, zn_le, zn_add, zn_sub, zn_mul, zn_addn, zn_eqn, zn_neq, zn_nlt, zn_nle, zn_ckb, isB_b2i, b2z0, b2z1, b2it, b2if, M.2, p.1, e1, hb1]
  have nb : gA h1 3022 i = vN v := (A _ _ (by omega) (by omega)).trans p.2.2.2.1
  rw [enc_s] at hb ⊢
  obtain ⟨jb, j1, j2, j3, j4⟩ := tgs_cnt (τ := τ) none w
  rw [← tgs_fuel w (show jt ≤ 200 by omega)] at j4
  have jk := j2.kind
  have kv : tK τ (vT v) < 10 ∧ 1 ≤ tK τ (vT v) := by
    rcases hvo with ⟨k, -⟩ | ⟨k, -⟩ | ⟨k, -⟩ | ⟨k, -⟩ | ⟨k, -⟩ | ⟨k, -⟩ | ⟨k, -⟩ <;> omega
  have clen : (cnE τ (enc τ d) v (vT v)).length ≤ E := Nat.le_trans (wrp_ge (tgs τ 200 t none) _) (by rw [hv]; exact hb)
  -- behind the content
  have fin : ∀ h4, MP h4 → EN h4 E (cnE τ (enc τ d) v (vT v)) → WW E 0 0 h h4 → gI h4 624 3000 = gI h1 624 3000 → (∀ j, gA h4 3016 j = gA h1 3016 j) → ∃ h', fX6_encode_116 F dd 3000 (zI ↑i) h4 = some h' ∧ EN h' E (wrp (tgs τ 200 t none) (cnE τ (enc τ d) v (bas τ 200 t))) ∧ WW E 0 0 h h' := by
    intro h4 M4 n4 w4 k1 k2
    unfold fX6_encode_116
    obtain ⟨h5, e5, n5, w5⟩ := enc118 (F := F) (dd := dd) (E := E) (c := cnE τ (enc τ d) v (vT v)) (i := i) (S := sz (d + 1) v) (by omega) (by omega) (tgs τ 200 t none).reverse [] F h4 M4 n4 (by rw [k1, TA.1, List.length_reverse]; rfl) (fun k x hx => by rw [k2, List.length_nil, Nat.zero_add]; exact TA.2 k x hx) (by rw [List.length_reverse, List.length_nil]; omega) (by rw [List.reverse_reverse, List.append_nil, hv]; exact hb) (by rw [w4.2.2 _ _ (by omega) (by omega) (by omega) (by omega)]; exact bw) (by rw [w4.2.2 _ _ (by omega) (by omega) (by omega) (by omega)]; exact st) (by rw [List.length_reverse]; omega)
    rw [List.reverse_reverse, List.append_nil, hv] at n5
    exact ⟨h5, e5, n5, w4.tr w5 (Nat.le_refl _) (Nat.le_refl _) (by omega) (by omega) (by omega) (by omega)⟩
  have E0 : fX6_encode F dd 3000 (zI ↑i) h = fX6_encode_20 F dd F 3000 (zI ↑i) (zI ↑(tK τ (vT v))) (vN v - 1) h1 := by
    unfold fX6_encode
    simp (disch := omega) only [mp607, mp608, mp609, mp611, mp612, mp613, mp614, mp615, mp616, mp617, mp618, mp619, mp620, mp621, mp622, mp625, mp626, mp631, mp632, mp633, mp636, mp637, mp638, mp639, mp640, mp641, mp642, mp643, mp645, mp646, mp650, mp651, mp652, mp653, mp654, mp655, mp656, mp657, mp658, ln3001, ln3002, ln3003, ln3004, ln3005, ln3006, ln3007, ln3008, ln3009, ln3010, ln3011, ln3012, ln3013, ln3014, ln3015, ln3016, ln3017, ln3018, ln3019, ln3020, ln3021, ln3022, ln3023, ln3024, ln3025, ln3026, ln3027, ln3028, ln3029, ln3030, ln3031, ln3032, ln3033, ln3034, ln3035, ln3036, ln3037, ln3038, ln3039, ck_t, nn_s, bn_d, ca_s, cv_s, oc_n, oc_s, cx_i, cx_r, cy_i, cy_r, gI_sI, gI_sP, gI_sA, gI_sR, gI_sJ, gI_nw, gI_nx, gP_sI, gP_sP, gP_sA, gP_sR, gP_sJ, gP_nw, gP_nx, gA_sI, gA_sP, gA_sA, gA_sR, gA_sJ, gA_nw, gA_nx, gR_sI, gR_sP, gR_sA, gR_sR, gR_sJ, gR_nw, gR_nx, reduceCtorEq, Nat.reduceEqDiff, or_self, or_true, true_or, or_false, false_or, eq_self, and_self, and_true, true_and, and_false, false_and, if_true, if_false, ↓reduceIte, ne_eq, not_true_eq_false, not_false_eq_true, zl0, zl1, zl2, zl3, zl4, zl5, zl6, zl7, zl8, zl9, zl10, zl12, zl15, zl16, zl20, zl31, zl32, zl48, zl97, zl99, zl100, zl120, zl127, zl128, zl129, zl130, zl137, zl150, zl160, zl169, zl254, zl255, zl256, zl4000, zl65535, zl65536, if_pos, if_neg, zn_inb, zn_cl, zn_eq, zn_lt, zn_le, zn_add, zn_sub, zn_mul, zn_addn, zn_eqn, zn_neq, zn_nlt, zn_nle, zn_ckb, isB_b2i, b2z0, b2z1, b2it, b2if, M.2, bO, M1.2, a1, nb]
  rw [E0]
  have f52 : ∀ x : Int32, ¬ tK τ (vT v) = 4 → fX6_encode_20 F dd F 3000 (zI ↑i) (zI ↑(tK τ (vT v))) x h1 = fX6_encode_52 F dd 3000 (zI ↑i) (zI ↑(tK τ (vT v))) h1 := by
    intro x k4
    obtain ⟨f, rfl⟩ : ∃ f, F = f + 1 := ⟨F - 1, by omega⟩
    rw [fX6_encode_20, if_neg (show ¬ zI ↑(tK τ (vT v)) = 4 from zn_ne 4 k4 rfl (by omega) (by omega))]
    split <;> rfl
  have bl := byO_le (vN v)
  have f97 : ∀ hh : Hp, MP hh → gA hh 3022 i = vN v → ¬ tK τ (vT v) = 2 → fX6_encode_52 F dd 3000 (zI ↑i) (zI ↑(tK τ (vT v))) hh = fX6_encode_97 F dd 3000 (zI ↑i) (zI ↑(tK τ (vT v))) hh := by
    intro hh Mh nh k2
    unfold fX6_encode_52
    obtain ⟨f, rfl⟩ : ∃ f, F = f + 1 := ⟨F - 1, by omega⟩
    rw [fX6_encode_54, Mh.2, mp637, nn_s, ln3022, zn_inb (show i < 100 by omega) (by omega), ck_t, zn_cl (by omega), nh, mbyO_ok, ca_s, if_neg (show ¬ zI ↑(byO (vN v)) ≤ 0 from fun z => by have := (zn_le (b := 0) (by omega) (by omega)).mp z; omega), if_neg (show ¬ zI ↑(tK τ (vT v)) = 2 from zn_ne 2 k2 rfl (by omega) (by omega))]
  have f116 : ∀ hh : Hp, ¬ tK τ (vT v) = 1 → fX6_encode_97 F dd 3000 (zI ↑i) (zI ↑(tK τ (vT v))) hh = fX6_encode_116 F dd 3000 (zI ↑i) hh := by
    intro hh k1
    unfold fX6_encode_97
    rw [if_neg (show ¬ zI ↑(tK τ (vT v)) = 1 from zn_ne 1 k1 rfl (by omega) (by omega))]
  rcases hvo with ⟨k, o1, o2, o3⟩ | ⟨k, o1, o2, o3⟩ | ⟨k, o1, o2, o3, o4⟩ | ⟨k, o1, o2, o3⟩ | ⟨k, -⟩ | ⟨k, -⟩ | ⟨k, -⟩
  · -- a boolean
    have ec : cnE τ (enc τ d) v (vT v) = [(255 * vN v).toNatClampNeg] := by unfold cnE; rw [if_pos k]
    rw [if_neg (by omega)] at hW
    subst hW
    rw [ec] at clen
    obtain ⟨h2, m2, n2, w2, k21, -, k22⟩ := make_c (F := F) (dd := dd) M1 n1 (by simpa using clen) (255 * vN v).toNatClampNeg
    rw [f52 _ (by omega), f97 _ M1 nb (by omega)]
    unfold fX6_encode_97
    rw [if_pos (show zI ↑(tK τ (vT v)) = 1 by rw [k]; rfl), M1.2, mp637, nn_s, ln3022, zn_inb (show i < 100 by omega) (by omega), ck_t, zn_cl (by omega), nb]
    rw [zc_bool o1] at m2
    rw [m2, cv_s]
    exact fin h2 (w2.mp M1) (by rw [ec]; exact n2) (w1.tr w2 (Nat.le_refl _) (Nat.le_refl _) (by omega) (by omega) (by omega) (by omega)) k21 k22
  · -- an int
    have ec : cnE τ (enc τ d) v (vT v) = ibs (vN v) (byO (vN v)) := by unfold cnE; rw [if_neg (by omega), if_pos k]
    rw [if_neg (by omega)] at hW
    subst hW
    rw [f52 _ (by omega)]
    unfold fX6_encode_52
    have ce : byO (vN v) ≤ E := by rw [ec, ibs_len] at clen; exact clen
    obtain ⟨h2, e2, n2, w2, k1, k2⟩ := enc54 (F := F) (dd := dd) (E := E) (i := i) (num := vN v) (by omega) ce (byO (vN v)) 0 F h1 M1 n1 nb (by omega) (by omega)
    rw [k, zl0, e2, show zI ↑(2 : Nat) = zI ↑(tK τ (vT v)) by rw [k], f116 _ (by omega)]
    exact fin h2 (w2.mp M1) (by rw [ec]; exact n2) (w1.tr w2 (Nat.le_refl _) (Nat.le_refl _) (by omega) (by omega) (by omega) (by omega)) k1 k2
  · -- octets
    have ec : cnE τ (enc τ d) v (vT v) = vO v := by unfold cnE; rw [if_neg (by omega), if_neg (by omega), if_pos k]
    rw [if_neg (by omega)] at hW
    subst hW
    rw [ec] at clen
    have em : vN v - 1 = zI ((vO v).length - 1 : Int) := by rw [o1, zl1, zI_sub]; rfl
    obtain ⟨h2, e2, n2, w2, k1, k2⟩ := enc20 (F := F) (dd := dd) (E := E) (i := i) (u := u) (os := vO v) (by omega) hu clen (vO v).length F h1 M1 (by rw [List.drop_length]; exact n1) ((A _ _ (by omega) (by omega)).trans p.2.2.2.2) (fun q x hq => (A _ _ (by omega) (by omega)).trans (ho q x hq)) (Nat.le_refl _) (by omega)
    rw [k, em, e2, show zI ↑(4 : Nat) = zI ↑(tK τ (vT v)) by rw [k], f97 h2 (w2.mp M1) (by rw [w2.2.2 _ _ (by omega) (by omega) (by omega) (by omega)]; exact nb) (by omega), f116 _ (by omega)]
    exact fin h2 (w2.mp M1) (by rw [ec]; exact n2) (w1.tr w2 (Nat.le_refl _) (Nat.le_refl _) (by omega) (by omega) (by omega) (by omega)) k1 k2
  · have ec : cnE τ (enc τ d) v (vT v) = [] := by unfold cnE; rw [if_neg (by omega), if_neg (by omega), if_neg (by omega), if_pos k]
    rw [if_neg (by omega)] at hW
    subst hW
    rw [f52 _ (by omega), f97 _ M1 nb (by omega), f116 _ (by omega)]
    exact fin h1 M1 (by rw [ec]; exact n1) w1 rfl (fun _ => rfl)
  · rw [if_pos (Or.inl k)] at hW
    subst hW
    rw [f52 _ (by omega), f97 _ M1 nb (by omega), f116 _ (by omega)]
    exact fin h1 M1 n1 w1 rfl (fun _ => rfl)
  · rw [if_pos (Or.inr (Or.inl k))] at hW
    subst hW
    rw [f52 _ (by omega), f97 _ M1 nb (by omega), f116 _ (by omega)]
    exact fin h1 M1 n1 w1 rfl (fun _ => rfl)
  · rw [if_pos (Or.inr (Or.inr k))] at hW
    subst hW
    rw [f52 _ (by omega), f97 _ M1 nb (by omega), f116 _ (by omega)]
    exact fin h1 M1 n1 w1 rfl (fun _ => rfl)
end Mc
