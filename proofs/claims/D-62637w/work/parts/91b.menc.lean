/-! THE MODEL WRITES (1): DER, an element from its end to its beginning -/
set_option maxRecDepth 100000
/-- bytes W in front of the place E -/
def EN (h : Hp) (E : Nat) (W : List Nat) : Prop := gI h 629 3000 = zI ↑(E - W.length) ∧ W.length ≤ E ∧ E ≤ 4000 ∧ ∀ (k x : Nat), W[k]? = some x → gA h 3020 (E - W.length + k) = zI ↑x
/-- what writing changes: bytes in front of E, starts of lo .. hi - 1, the latest type's base and tags -/
def WW (E lo hi : Nat) (h h' : Hp) : Prop := (gP h' = gP h ∧ gL h' = gL h ∧ gR h' = gR h) ∧ (∀ g y, ¬ (y = 3000 ∧ (g = 623 ∨ g = 624 ∨ g = 629)) → gI h' g y = gI h g y) ∧
  ∀ y i, ¬ y = 3016 → ¬ y = 3017 → ¬ (y = 3020 ∧ i < E) → ¬ (y = 3027 ∧ lo ≤ i ∧ i < hi) → gA h' y i = gA h y i
theorem WW.rf (E lo hi : Nat) (h : Hp) : WW E lo hi h h := ⟨⟨rfl, rfl, rfl⟩, fun _ _ _ => rfl, fun _ _ _ _ _ _ => rfl⟩
theorem WW.tr {E1 lo1 hi1 E2 lo2 hi2 E lo hi : Nat} {h1 h2 h3 : Hp} (a : WW E1 lo1 hi1 h1 h2) (b : WW E2 lo2 hi2 h2 h3) (l0 : E1 ≤ E) (l5 : E2 ≤ E) (l1 : lo ≤ lo1 ∨ hi1 ≤ lo1) (l2 : hi1 ≤ hi ∨ hi1 ≤ lo1) (l3 : lo ≤ lo2 ∨ hi2 ≤ lo2) (l4 : hi2 ≤ hi ∨ hi2 ≤ lo2) : WW E lo hi h1 h3 :=
  ⟨⟨b.1.1.trans a.1.1, b.1.2.1.trans a.1.2.1, b.1.2.2.trans a.1.2.2⟩, fun g y q => (b.2.1 g y q).trans (a.2.1 g y q), fun y i q1 q2 q3 q4 => (b.2.2 y i q1 q2 (by omega) (by omega)).trans (a.2.2 y i q1 q2 (by omega) (by omega))⟩
theorem WW.mp {E lo hi : Nat} {h h' : Hp} (s : WW E lo hi h h') (M : MP h) : MP h' := by
  unfold MP at M ⊢
  rw [s.1.1, s.1.2.1]; exact M
theorem WW.mt {E lo hi N : Nat} {τ : Tb} {h h' : Hp} (s : WW E lo hi h h') (T : MT h τ N) : MT h' τ N := T.fr fun y i h1 h2 => s.2.2 y i (by omega) (by omega) (by omega) (by omega)
theorem WW.pv {E lo hi : Nat} {h h' : Hp} (s : WW E lo hi h h') {τ : Tb} {d : Nat} {v : Vt d} {i u : Nat} {of : Int32} {as t : Nat} (p : PV h τ d v i u of as t) : PV h' τ d v i u of as t :=
  p.fr2 (lo := 0) (fun y i _ _ _ => s.2.2 y i (by omega) (by omega) (by omega) (by omega)) (fun i => s.2.2 _ i (by omega) (by omega) (by omega) (by omega)) (Nat.zero_le _)
theorem WW.bw {E lo hi : Nat} {h h' : Hp} (s : WW E lo hi h h') {d : Nat} {v : Vt d} {i : Nat} (p : BW h d v i) : BW h' d v i :=
  p.fr (lo := 0) (hi := i + sz d v) (fun i _ _ => s.2.2 _ i (by omega) (by omega) (by omega) (by omega)) (Nat.zero_le _) (Nat.le_refl _)
theorem WW.uw {E lo hi : Nat} {h h' : Hp} (U : UW 0 h h') : WW E lo hi h h' :=
  ⟨⟨U.1, U.2.1, U.2.2.1⟩, fun g y q => U.2.2.2.1 g y (by omega), fun y i q1 q2 _ _ => U.2.2.2.2.1 y i q1 q2⟩
theorem EN.uw {E : Nat} {W : List Nat} {h h' : Hp} (e : EN h E W) (U : UW 0 h h') : EN h' E W :=
  ⟨(U.2.2.2.1 _ _ (by omega)).trans e.1, e.2.1, e.2.2.1, fun k x hx => (U.2.2.2.2.1 _ _ (by omega) (by omega)).trans (e.2.2.2 k x hx)⟩
section Mk
variable {F dd E N : Nat} {τ : Tb}
theorem make_c {h : Hp} {W : List Nat} (M : MP h) (e : EN h E W) (hl : W.length + 1 ≤ E) (x : Nat) :
    ∃ h', fX6_make F dd 3000 (zI ↑x) h = some h' ∧ EN h' E (x :: W) ∧ WW E 0 0 h h' ∧ gI h' 624 3000 = gI h 624 3000 ∧ gI h' 623 3000 = gI h 623 3000 ∧ ∀ i, gA h' 3016 i = gA h 3016 i := by
  obtain ⟨e1, e2, e3, e4⟩ := e
  have E0 : fX6_make F dd 3000 (zI ↑x) h = some (sA (sI h 629 3000 (zI ↑(E - W.length - 1))) 3020 (E - W.length - 1) (zI ↑x)) := by
    unfold fX6_make
    simp (disch := omega) only [mp607, mp608, mp609, mp611, mp612, mp613, mp614, mp615, mp616, mp617, mp618, mp619, mp620, mp621, mp622, mp625, mp626, mp631, mp632, mp633, mp636, mp637, mp638, mp639, mp640, mp641, mp642, mp643, mp645, mp646, mp650, mp651, mp652, mp653, mp654, mp655, mp656, mp657, mp658, ln3001, ln3002, ln3003, ln3004, ln3005, ln3006, ln3007, ln3008, ln3009, ln3010, ln3011, ln3012, ln3013, ln3014, ln3015, ln3016, ln3017, ln3018, ln3019, ln3020, ln3021, ln3022, ln3023, ln3024, ln3025, ln3026, ln3027, ln3028, ln3029, ln3030, ln3031, ln3032, ln3033, ln3034, ln3035, ln3036, ln3037, ln3038, ln3039, ck_t, nn_s, bn_d, ca_s, cv_s, oc_n, oc_s, cx_i, cx_r, cy_i, cy_r, gI_sI, gI_sP, gI_sA, gI_sR, gI_sJ, gI_nw, gI_nx, gP_sI, gP_sP, gP_sA, gP_sR, gP_sJ, gP_nw, gP_nx, gA_sI, gA_sP, gA_sA, gA_sR, gA_sJ, gA_nw, gA_nx, gR_sI, gR_sP, gR_sA, gR_sR, gR_sJ, gR_nw, gR_nx, reduceCtorEq, Nat.reduceEqDiff, or_self, or_true, true_or, or_false, false_or, eq_self, and_self, and_true, true_and, and_false, false_and, if_true, if_false, ↓reduceIte, ne_eq, not_true_eq_false, not_false_eq_true, zl0, zl1, zl2, zl3, zl4, zl5, zl6, zl7, zl8, zl9, zl10, zl12, zl15, zl16, zl20, zl31, zl32, zl48, zl97, zl99, zl100, zl120, zl127, zl128, zl129, zl130, zl137, zl150, zl160, zl169, zl254, zl255, zl256, zl4000, zl65535, zl65536, if_pos, if_neg, zn_inb, zn_cl, zn_eq, zn_lt, zn_le, zn_add, zn_sub, zn_mul, zn_addn, zn_eqn, zn_neq, zn_nlt, zn_nle, zn_ckb, isB_b2i, b2z0, b2z1, b2it, b2if, M.2, e1]
  rw [E0]
  refine ⟨_, rfl, ⟨?_, by rw [List.length_cons]; exact hl, e3, fun k y hy => ?_⟩, ⟨⟨rfl, rfl, rfl⟩, fun g y q => ?_, fun y i q1 q2 q3 q4 => ?_⟩, ?_, ?_, fun i => ?_⟩
  · rw [gI_sA, gI_sI, if_pos ⟨rfl, rfl⟩, List.length_cons]; congr 2
  · rw [List.length_cons]
    cases k with
    | zero =>
      cases hy
      rw [gA_sA, if_pos ⟨rfl, by omega⟩]
    | succ k =>
      rw [gA_sA, if_neg (by omega), gA_sI, show E - (W.length + 1) + (k + 1) = E - W.length + k by omega]
      exact e4 k y (by simpa using hy)
  · rw [gI_sA, gI_sI, if_neg (by omega)]
  · rw [gA_sA, if_neg (by omega)]; rfl
  · rw [gI_sA, gI_sI, if_neg (by decide)]
  · rw [gI_sA, gI_sI, if_neg (by decide)]
  · rw [gA_sA, if_neg (by omega)]; rfl
theorem wrp_app (xs ys c : List Nat) : wrp (xs ++ ys) c = wrp xs (wrp ys c) := by
  induction xs with
  | nil => rfl
  | cons x xs ih => rw [List.cons_append, wrp_c, wrp_c, ih]
/-- the tags around a content -/
theorem enc118 {c : List Nat} {i S : Nat} (hi : i < 100) (hS : i + S < 101) : ∀ (rs ys : List Nat) (nf : Nat) (h : Hp), MP h → EN h E (wrp ys c) → gI h 624 3000 = zI ↑(rs.length + ys.length) → (∀ (k x : Nat), rs[k]? = some x → gA h 3016 (ys.length + k) = zI ↑x) → rs.length + ys.length ≤ 15 → (wrp (rs.reverse ++ ys) c).length ≤ E → gA h 3026 i = zI ↑S → gA h 3027 (i + S) = zI ↑E → rs.length < nf →
    ∃ h', fX6_encode_118 F dd nf 3000 (zI ↑i) (zI ↑ys.length) h = some h' ∧ EN h' E (wrp (rs.reverse ++ ys) c) ∧ WW E 0 0 h h' := by
  intro rs
  induction rs with
  | nil =>
    intro ys nf h M e t1 t2 hln hb s1 s2 hn
    obtain ⟨f, rfl⟩ : ∃ f, nf = f + 1 := ⟨nf - 1, by omega⟩
    rw [List.length_nil, Nat.zero_add] at t1
    rw [fX6_encode_118, t1, if_pos (Int32.le_refl _)]
    exact ⟨h, rfl, e, WW.rf _ _ _ _⟩
  | cons x rs ih =>
    intro ys nf h M e t1 t2 hln hb s1 s2 hn
    obtain ⟨f, rfl⟩ : ∃ f, nf = f + 1 := ⟨nf - 1, by omega⟩
    rw [List.length_cons] at t1 hln hn
    have hbr : rs.reverse ++ (x :: ys) = (x :: rs).reverse ++ ys := by simp
    have tg := t2 0 x rfl
    rw [Nat.add_zero] at tg
    rw [← hbr] at hb ⊢
    have hb1 : (wrp (x :: ys) c).length ≤ E := by
      rw [wrp_app] at hb
      exact Nat.le_trans (wrp_ge _ _) hb
    have hw : (wrp (x :: ys) c) = hdr x (wrp ys c).length ++ wrp ys c := rfl
    rw [hw, List.length_append, hdr_len] at hb1
    generalize hW : wrp ys c = W at *
    have el := e.2.1
    have e3 := e.2.2.1
    have nx : ∀ (h4 : Hp), MP h4 → EN h4 E (hdr x W.length ++ W) → WW E 0 0 h h4 → gI h4 624 3000 = gI h 624 3000 → (∀ i, gA h4 3016 i = gA h 3016 i) → ∃ h', fX6_encode_118 F dd f 3000 (zI ↑i) (zI ↑(ys.length + 1)) h4 = some h' ∧ EN h' E (wrp (rs.reverse ++ x :: ys) c) ∧ WW E 0 0 h h' := by
      intro h4 M4 e4 w4 k1 k2
      obtain ⟨h5, e5, n5, w5⟩ := ih (x :: ys) f h4 M4 (by rw [hw]; exact e4) (by rw [k1, t1, List.length_cons]; congr 2; omega) (fun k y hy => by rw [k2, List.length_cons, show ys.length + 1 + k = ys.length + (k + 1) by omega]; exact t2 (k + 1) y (by simpa using hy)) (by rw [List.length_cons]; omega) hb (by rw [w4.2.2 _ _ (by omega) (by omega) (by omega) (by omega)]; exact s1) (by rw [w4.2.2 _ _ (by omega) (by omega) (by omega) (by omega)]; exact s2) (by omega)
      exact ⟨h5, e5, n5, w4.tr w5 (Nat.le_refl _) (Nat.le_refl _) (by omega) (by omega) (by omega) (by omega)⟩
    have v8 : zI ↑E - zI ↑(E - W.length) = zI ↑W.length := by rw [zn_sub (by omega)]; congr 2; omega
    have r8 : zI ↑W.length - zI ↑W.length / 256 * 256 = zI ↑(W.length % 256) := by
      rw [show (256 : Int32) = zI 256 from rfl, zI_rem (by omega) (by omega) (by omega) (by omega)]; congr 1
    have d8 : zI ↑W.length / 256 = zI ↑(W.length / 256) := by
      rw [show (256 : Int32) = zI 256 from rfl, zI_div (by omega) (by omega) (by omega) (by omega)]; congr 1
    obtain ⟨h1, m1, n1, w1, k11, -, k12⟩ := make_c (F := F) (dd := dd) M e (by unfold hl at hb1; split at hb1 <;> (try split at hb1) <;> omega) (W.length % 256)
    have M1 := w1.mp M
    have E1 : fX6_encode_118 F dd (f + 1) 3000 (zI ↑i) (zI ↑ys.length) h = (if zI ↑W.length ≤ 127 then fX6_encode_187 F dd (fX6_encode_118 F dd f) 3000 (zI ↑i) (zI ↑ys.length) (zI ↑W.length) h1 else if zI ↑W.length ≤ 255 then fX6_encode_184 F dd (fX6_encode_118 F dd f) 3000 (zI ↑i) (zI ↑ys.length) (zI ↑W.length) 3000 129 h1 else fX6_encode_184 F dd (fX6_encode_118 F dd f) 3000 (zI ↑i) (zI ↑ys.length) (zI ↑W.length) 3000 (zI ↑(W.length / 256)) h1) := by
      rw [fX6_encode_118, t1, if_neg (show ¬ zI ↑(rs.length + 1 + ys.length) ≤ zI ↑ys.length from fun z => by rw [zn_le (by omega) (by omega)] at z; omega), M.2, mp642, nn_s, M.2, mp641, nn_s, ln3026, zn_inb (show i < 100 by omega) (by omega), ck_t, zn_cl (by omega), s1, zn_add, ln3027, zn_inb (show i + S < 101 by omega) (by omega), ck_t, bn_d, zn_cl (by omega), s2, e.1, v8, r8, m1, cv_s, d8]
    rw [E1]
    -- the tag itself
    have tag202 : ∀ (h3 : Hp) (V : List Nat), MP h3 → EN h3 E V → V.length + 1 ≤ E → WW E 0 0 h h3 → gI h3 624 3000 = gI h 624 3000 → (∀ i, gA h3 3016 i = gA h 3016 i) → x :: V = hdr x W.length ++ W → ∃ h', fX6_encode_202 F dd (fX6_encode_118 F dd f) 3000 (zI ↑i) (zI ↑ys.length) h3 = some h' ∧ EN h' E (wrp (rs.reverse ++ x :: ys) c) ∧ WW E 0 0 h h' := by
      intro h3 V M3 n3 l3 w3 k1 k2 hV
      obtain ⟨h4, m4, n4, w4, k41, -, k42⟩ := make_c (F := F) (dd := dd) M3 n3 l3 x
      unfold fX6_encode_202
      rw [M3.2, mp625, nn_s, ln3016, zn_inb (show ys.length < 16 by omega) (by omega), ck_t, zn_cl (by omega), k2, tg, m4, cv_s, bn_d, zn_succ]
      rw [hV] at n4
      exact nx h4 (w4.mp M3) n4 (w3.tr w4 (Nat.le_refl _) (Nat.le_refl _) (by omega) (by omega) (by omega) (by omega)) (k41.trans k1) (fun i => (k42 i).trans (k2 i))
    unfold hl at hb1
    by_cases c1 : W.length ≤ 127
    · rw [if_neg (show ¬ 255 < W.length by omega), if_neg (show ¬ 127 < W.length by omega)] at hb1
      rw [if_pos (show zI ↑W.length ≤ 127 from (zn_le (b := 127) (by omega) (by omega)).mpr c1)]
      unfold fX6_encode_187
      rw [if_pos (show zI ↑W.length ≤ 255 from (zn_le (b := 255) (by omega) (by omega)).mpr (by omega))]
      exact tag202 h1 _ M1 n1 (by rw [List.length_cons]; omega) w1 k11 k12 (by unfold hdr; rw [if_neg (show ¬ 255 < W.length by omega), if_neg (show ¬ 127 < W.length by omega)]; rfl)
    · rw [if_neg (show ¬ zI ↑W.length ≤ 127 from fun z => by have := (zn_le (b := 127) (by omega) (by omega)).mp z; omega)]
      unfold fX6_encode_184
      by_cases c2 : W.length ≤ 255
      · rw [if_neg (show ¬ 255 < W.length by omega), if_pos (show 127 < W.length by omega)] at hb1
        rw [if_pos (show zI ↑W.length ≤ 255 from (zn_le (b := 255) (by omega) (by omega)).mpr c2)]
        obtain ⟨h2, m2, n2, w2, k21, -, k22⟩ := make_c (F := F) (dd := dd) M1 n1 (by rw [List.length_cons]; omega) 129
        rw [zl129, m2, cv_s]
        unfold fX6_encode_187
        rw [if_pos (show zI ↑W.length ≤ 255 from (zn_le (b := 255) (by omega) (by omega)).mpr c2)]
        exact tag202 h2 _ (w2.mp M1) n2 (by rw [List.length_cons, List.length_cons]; omega) (w1.tr w2 (Nat.le_refl _) (Nat.le_refl _) (by omega) (by omega) (by omega) (by omega)) (k21.trans k11) (fun i => (k22 i).trans (k12 i)) (by unfold hdr; rw [if_neg (show ¬ 255 < W.length by omega), if_pos (show 127 < W.length by omega)]; rfl)
      · rw [if_pos (show 255 < W.length by omega)] at hb1
        rw [if_neg (show ¬ zI ↑W.length ≤ 255 from fun z => by have := (zn_le (b := 255) (by omega) (by omega)).mp z; omega)]
        obtain ⟨h2, m2, n2, w2, k21, -, k22⟩ := make_c (F := F) (dd := dd) M1 n1 (by rw [List.length_cons]; omega) (W.length / 256)
        rw [m2, cv_s]
        unfold fX6_encode_187
        rw [if_neg (show ¬ zI ↑W.length ≤ 255 from fun z => by have := (zn_le (b := 255) (by omega) (by omega)).mp z; omega)]
        have M2 := w2.mp M1
        obtain ⟨h3, m3, n3, w3, k31, -, k32⟩ := make_c (F := F) (dd := dd) M2 n2 (by rw [List.length_cons, List.length_cons]; omega) 130
        rw [zl130, m3, cv_s]
        have w12 := w1.tr (E := E) (lo := 0) (hi := 0) w2 (Nat.le_refl _) (Nat.le_refl _) (by omega) (by omega) (by omega) (by omega)
        exact tag202 h3 _ (w3.mp M2) n3 (by rw [List.length_cons, List.length_cons, List.length_cons]; omega) (w12.tr w3 (Nat.le_refl _) (Nat.le_refl _) (by omega) (by omega) (by omega) (by omega)) (k31.trans (k21.trans k11)) (fun i => (k32 i).trans ((k22 i).trans (k12 i))) (by unfold hdr; rw [if_pos (show 255 < W.length by omega)]; rfl)
end Mk
