/-! THE MODEL READS (6): runs of the loop; explicit tags -/
set_option maxRecDepth 100000
/-- what reading an element comes to, by k more steps of the loop -/
def RV (F dd : Nat) (rl : Int32) (τ : Tb) (t as : Nat) (of : Int32) (h0 h : Hp) (c0 fr m u e : Nat) {d : Nat} (x : Option (Vt d × Nat)) : Prop :=
  ∃ k h', (∀ nf, fX6_isValue_47 F dd (nf + k) 3000 rl h = fX6_isValue_47 F dd nf 3000 rl h') ∧ (match x with
    | none => Bad h' ∧ k + c0 ≤ e + 1
    | some (v, a') => (MR h' a' fr (m + sz d v) (u + oz d v) e ∧ PV h' τ d v m u of as t ∧ KM fr m u h0 h') ∧ k + c0 ≤ a')
/-- behind a value: an end is left -/
def rTp (b : Nat → Nat) (e1 : Nat) (l : Bool) {α : Type} (x : Option (α × Nat)) : Option (α × Nat) := match x with
  | none => none
  | some (v, a2) => match lea b a2 e1 l with
    | none => none
    | some a3 => some (v, a3)
theorem rT_s {b : Nat → Nat} {α : Type} (k : Nat → Nat → Option (α × Nat)) (x : Nat) (xs : List Nat) (a e : Nat) : rT b k (x :: xs) a e = match ent b x a e with | none => none | some (a1, e1, l) => rTp b e1 l (rT b k xs a1 e1) := by
  rw [rT]
  cases ent b x a e with
  | none => rfl
  | some z =>
    obtain ⟨a1, e1, l⟩ := z
    dsimp only
    unfold rTp
    cases rT b k xs a1 e1 with
    | none => rfl
    | some y =>
      obtain ⟨v, a2⟩ := y
      dsimp only
      cases lea b a2 e1 l <;> rfl
theorem ent_s {b : Nat → Nat} {x a e : Nat} (h : a < e ∧ b a = x) : ent b x a e = match lnR b (a + 1) e true with | none => none | some (w, a1) => some (a1, lnE w a1 e, w.isNone) := by
  unfold ent
  rw [if_pos h]
  cases lnR b (a + 1) e true with
  | none => rfl
  | some z =>
    obtain ⟨w, a1⟩ := z
    cases w <;> rfl
section Ru
variable {F dd fr m u e n N j : Nat} {b : Nat → Nat} {τ : Tb} {rl : Int32}
theorem RV.bad {t as c0 d : Nat} {of : Int32} {h0 h : Hp} (B : Bad h) (hc : c0 ≤ e + 1) : RV F dd rl τ t as of h0 h c0 fr m u e (none : Option (Vt d × Nat)) :=
  ⟨0, h, fun _ => rfl, B, by omega⟩
/-- one step -/
theorem L_go {h : Hp} {a : Nat} (R : MR h a (fr + 1) m u e) (hr : ¬ 2 ≤ rl) (nf : Nat) : fX6_isValue_47 F dd (nf + 1) 3000 rl h = cv (fX6_goOn F dd 3000 h) fun h6 => fX6_isValue_47 F dd nf 3000 rl h6 := by
  have r7 := R.2.2.1
  rw [fX6_isValue_47]
  simp (disch := omega) only [mp607, mp608, mp609, mp611, mp612, mp613, mp614, mp615, mp616, mp617, mp618, mp619, mp620, mp621, mp622, mp625, mp626, mp631, mp632, mp633, mp636, mp637, mp638, mp639, mp640, mp641, mp642, mp643, mp645, mp646, mp650, mp651, mp652, mp653, mp654, mp655, mp656, mp657, mp658, ln3001, ln3002, ln3003, ln3004, ln3005, ln3006, ln3007, ln3008, ln3009, ln3010, ln3011, ln3012, ln3013, ln3014, ln3015, ln3016, ln3017, ln3018, ln3019, ln3020, ln3021, ln3022, ln3023, ln3024, ln3025, ln3026, ln3027, ln3028, ln3029, ln3030, ln3031, ln3032, ln3033, ln3034, ln3035, ln3036, ln3037, ln3038, ln3039, ck_t, nn_s, bn_d, ca_s, cv_s, oc_n, oc_s, cx_i, cx_r, cy_i, cy_r, gI_sI, gI_sP, gI_sA, gI_sR, gI_sJ, gI_nw, gI_nx, gP_sI, gP_sP, gP_sA, gP_sR, gP_sJ, gP_nw, gP_nx, gA_sI, gA_sP, gA_sA, gA_sR, gA_sJ, gA_nw, gA_nx, gR_sI, gR_sP, gR_sA, gR_sR, gR_sJ, gR_nw, gR_nx, reduceCtorEq, Nat.reduceEqDiff, or_self, or_true, true_or, or_false, false_or, eq_self, and_self, and_true, true_and, and_false, false_and, if_true, if_false, ↓reduceIte, ne_eq, not_true_eq_false, not_false_eq_true, zl0, zl1, zl2, zl3, zl4, zl5, zl6, zl7, zl8, zl9, zl10, zl12, zl15, zl16, zl20, zl31, zl32, zl48, zl97, zl99, zl100, zl120, zl127, zl128, zl129, zl130, zl137, zl150, zl160, zl169, zl254, zl255, zl256, zl4000, zl65535, zl65536, if_pos, if_neg, zn_inb, zn_cl, zn_eq, zn_lt, zn_le, zn_add, zn_sub, zn_mul, zn_addn, zn_eqn, zn_neq, zn_nlt, zn_nle, zn_ckb, isB_b2i, b2z0, b2z1, b2it, b2if, R.1.2.2.1, R.1.2.1]
  exact if_neg (show ¬ zI ↑(2 : Nat) ≤ rl from hr)
theorem BE.km {h h' : Hp} (he : BE h fr e) (K : KM fr m u h h') : BE h' fr e := by
  unfold BE at he ⊢
  by_cases c : fr = 0
  · rw [if_pos c] at he ⊢; rw [K.2.1 _ _ (by decide)]; exact he
  · rw [if_neg c] at he ⊢; rw [K.2.2.2.1 _ _ (by omega) (by omega) (by omega)]; exact he
/-- a frame of an explicit tag is left -/
theorem tag_go {h : Hp} {a : Nat} (S : MSrc h b n) (R : MR h a (fr + 1) m u e) (he : e ≤ n) {l : Bool} (hp : gA h 3031 fr = -1) (hl : gA h 3035 fr = b2i l) {e0 : Nat} (he0 : BE h fr e0) (hee : e ≤ e0) :
    ∃ h', fX6_goOn F dd 3000 h = some h' ∧ (match lea b a e l with
      | none => Bad h'
      | some a3 => MR h' a3 fr m u e0 ∧ KM fr m u h h') := by
  have r7 := R.2.2.1
  have e1 : sI h 649 3000 (zI ↑(1 : Nat)) = h := sI_id R.1.2.2.1
  have E : fX6_goOn F dd 3000 h = fX6_leaveFrame F dd 3000 h := by
    unfold fX6_goOn
    rw [bn_d, R.1.2.1, zn_pred (by omega), Nat.add_sub_cancel, S.1.2, mp650, nn_s, ln3031, zn_inb (show fr < 160 by omega) (by omega), ck_t, bn_d, zn_cl (by omega), hp, if_pos (by decide)]
    unfold fX6_goOn_25 fX6_goOn_30
    rw [if_neg (by decide)]
    unfold fX6_goOn_44
    rw [if_pos (by decide)]
    unfold fX6_goOn_66
    rw [if_pos (by decide)]
    unfold fX6_goOn_107 fX6_goOn_112
    rw [show isB 1 = true by decide, ck_t, bn_d, zl1, e1]
    cases fX6_leaveFrame F dd 3000 h <;> rfl
  rw [E]
  exact mlea_ok S R he hl he0 hee
/-- element's loop over bad states -/
theorem el12_b {h : Hp} {nf : Nat} {x4 x5 x6 x7 : Int32} (B : Bad h) (hn : 0 < nf) : fX6_element_12 F dd nf 3000 x4 x5 x6 x7 h = some h := by
  obtain ⟨f, rfl⟩ : ∃ f, nf = f + 1 := ⟨nf - 1, by omega⟩
  unfold Bad at B
  rw [fX6_element_12]
  unfold fX6_element_304
  rw [B, if_pos z00, if_pos z00]
  split <;> rfl
theorem el121_b {h : Hp} {nf : Nat} {x4 x5 x6 : Int32} (B : Bad h) (hn : 0 < nf) : fX6_element_121 F dd (fX6_element_12 F dd nf) 3000 x4 x5 x6 h = some h := by
  have B0 := B
  unfold Bad at B
  unfold fX6_element_121 fX6_element_146 fX6_element_147 fX6_element_301
  rw [B, if_pos z00, if_pos rfl]
  exact el12_b B0 hn
theorem el59_b {h : Hp} {nf f : Nat} {x4 x5 x6 x8 x9 : Int32} (B : Bad h) (hn : 0 < nf) (hf : 0 < f) : fX6_element_59 F dd (fX6_element_12 F dd nf) f 3000 x4 x5 x6 x8 x9 h = some h := by
  have B0 := B
  unfold Bad at B
  obtain ⟨g, rfl⟩ : ∃ g, f = g + 1 := ⟨f - 1, by omega⟩
  rw [fX6_element_59, B, if_pos z00]
  split <;> exact el121_b B0 hn
/-- through explicit tags -/
theorem tags_ok2 {t as x8 d : Nat} {of : Int32} {nf q : Nat} {al : List Nat} (k : Nat → Nat → Option (Vt d × Nat)) (hn : 0 < nf) (hr : ¬ 2 ≤ rl) (hF : 1000 ≤ F)
    (hC : ∀ (h : Hp) (a fr e : Nat), MSrc h b n → MR h a fr m u e → MT h τ N → e ≤ n → fr + j ≤ 150 → TgA h al → gI h 623 3000 = zI ↑q → ∃ h1, fX6_element_121 F dd (fX6_element_12 F dd nf) 3000 (zI ↑t) of (zI ↑as) h = some h1 ∧ RV F dd rl τ t as of h h1 (a + 1) fr m u e (k a e)) :
    ∀ (xs ys zs : List Nat) (f : Nat) (h : Hp) (a fr e : Nat), al = ys ++ xs ++ zs → zs.length = x8 → al.length ≤ 12 → (∀ x ∈ xs, x < 256) → MSrc h b n → MR h a fr m u e → MT h τ N → e ≤ n → fr + j + xs.length ≤ 150 → TgA h al → gI h 623 3000 = zI ↑q → xs.length < f →
    ∃ h1, fX6_element_59 F dd (fX6_element_12 F dd nf) f 3000 (zI ↑t) of (zI ↑as) (zI ↑x8) (zI (x8 + xs.length - 1 : Int)) h = some h1 ∧ RV F dd rl τ t as of h h1 (a + 1) fr m u e (rT b k xs a e) := by
  intro xs
  induction xs with
  | nil =>
    intro ys zs f h a fr e ha hz hl hx S R T he hfr TA hb hf
    obtain ⟨g, rfl⟩ : ∃ g, f = g + 1 := ⟨f - 1, by omega⟩
    have hzl : zs.length ≤ 12 := by rw [ha] at hl; simp at hl; omega
    rw [fX6_element_59, if_pos ((zI_lt (by simp; omega) (by simp; omega) (by omega) (by omega)).mpr (by simp; omega))]
    exact hC h a fr e S R T he (by omega) TA hb
  | cons x xs ih =>
    intro ys zs f h a fr e ha hz hl hx S R T he hfr TA hb hf
    obtain ⟨g, rfl⟩ : ∃ g, f = g + 1 := ⟨f - 1, by omega⟩
    rw [List.length_cons] at hfr hf
    have hzl : ys.length + (xs.length + 1) + zs.length ≤ 12 := by rw [ha] at hl; simp at hl; omega
    have ex : ((x8 : Int) + ↑(x :: xs).length - 1) = ↑(x8 + xs.length) := by rw [List.length_cons]; omega
    have hxx := hx x (List.mem_cons_self)
    have tg : gA h 3016 (x8 + xs.length) = zI ↑x := by
      apply TA.2
      rw [ha, List.reverse_append, List.reverse_append, List.reverse_cons, List.getElem?_append_right (by simp; omega), List.getElem?_append_left (by simp; omega), List.getElem?_append_right (by simp; omega)]
      have : x8 + xs.length - zs.reverse.length - xs.reverse.length = 0 := by simp; omega
      rw [this]; rfl
    have hn' := S.2.2.1
    have r7 := R.2.2.1
    rw [ex]
    have ent0 : ¬ (a < e ∧ b a = x) → ent b x a e = none := fun z => by unfold ent; rw [if_neg z]
    have badcase : ent b x a e = none → (∃ h1, fX6_element_59 F dd (fX6_element_12 F dd nf) (g + 1) 3000 (zI ↑t) of (zI ↑as) (zI ↑x8) (zI ↑(x8 + xs.length)) h = some h1 ∧ Bad h1) → ∃ h1, fX6_element_59 F dd (fX6_element_12 F dd nf) (g + 1) 3000 (zI ↑t) of (zI ↑as) (zI ↑x8) (zI ↑(x8 + xs.length)) h = some h1 ∧ RV F dd rl τ t as of h h1 (a + 1) fr m u e (rT b k (x :: xs) a e) := by
      intro z ⟨h1, e1, B1⟩
      refine ⟨h1, e1, ?_⟩
      rw [rT_s, z]
      exact RV.bad B1 (by have := R.2.2.2.2.2; omega)
    by_cases c : a < e
    · have hba := (S.2.2.2 a (by omega)).2
      have nx := mn_in (F := F) (d := dd) S R c he
      by_cases c1 : b a = x
      · -- the tag is there
        have S1 : MSrc (sI h 647 3000 (zI ↑(a + 1))) b n := S.at (by decide)
        have R1 := R.at (x := a + 1) (by have := R.2.2.2.2.1; omega) (by omega)
        obtain ⟨h2, e2, q2⟩ := ment_ok (F := F) (d := dd) S1 R1 he (by omega) (-1)
        have e0 : sI (sI h 647 3000 (zI ↑(a + 1))) 649 3000 (zI ↑(1 : Nat)) = sI h 647 3000 (zI ↑(a + 1)) := sI_id R1.1.2.2.1
        have E : fX6_element_59 F dd (fX6_element_12 F dd nf) (g + 1) 3000 (zI ↑t) of (zI ↑as) (zI ↑x8) (zI ↑(x8 + xs.length)) h = fX6_element_59 F dd (fX6_element_12 F dd nf) g 3000 (zI ↑t) of (zI ↑as) (zI ↑x8) (zI (x8 + xs.length - 1 : Int)) h2 := by
          have em : zI ↑(x8 + xs.length) + -zI ↑(1 : Nat) = zI (x8 + xs.length - 1 : Int) := by rw [zI_neg, zI_add]; rfl
          rw [fX6_element_59]
          unfold fX6_element_100 fX6_element_115
          have e2' : fX6_enter F dd 3000 (-zI ↑(1 : Nat)) (sI h 647 3000 (zI ↑(a + 1))) = some h2 := e2
          simp (disch := omega) only [mp607, mp608, mp609, mp611, mp612, mp613, mp614, mp615, mp616, mp617, mp618, mp619, mp620, mp621, mp622, mp625, mp626, mp631, mp632, mp633, mp636, mp637, mp638, mp639, mp640, mp641, mp642, mp643, mp645, mp646, mp650, mp651, mp652, mp653, mp654, mp655, mp656, mp657, mp658, ln3001, ln3002, ln3003, ln3004, ln3005, ln3006, ln3007, ln3008, ln3009, ln3010, ln3011, ln3012, ln3013, ln3014, ln3015, ln3016, ln3017, ln3018, ln3019, ln3020, ln3021, ln3022, ln3023, ln3024, ln3025, ln3026, ln3027, ln3028, ln3029, ln3030, ln3031, ln3032, ln3033, ln3034, ln3035, ln3036, ln3037, ln3038, ln3039, ck_t, nn_s, bn_d, ca_s, cv_s, oc_n, oc_s, cx_i, cx_r, cy_i, cy_r, gI_sI, gI_sP, gI_sA, gI_sR, gI_sJ, gI_nw, gI_nx, gP_sI, gP_sP, gP_sA, gP_sR, gP_sJ, gP_nw, gP_nx, gA_sI, gA_sP, gA_sA, gA_sR, gA_sJ, gA_nw, gA_nx, gR_sI, gR_sP, gR_sA, gR_sR, gR_sJ, gR_nw, gR_nx, reduceCtorEq, Nat.reduceEqDiff, or_self, or_true, true_or, or_false, false_or, eq_self, and_self, and_true, true_and, and_false, false_and, if_true, if_false, ↓reduceIte, ne_eq, not_true_eq_false, not_false_eq_true, zl0, zl1, zl2, zl3, zl4, zl5, zl6, zl7, zl8, zl9, zl10, zl12, zl15, zl16, zl20, zl31, zl32, zl48, zl97, zl99, zl100, zl120, zl127, zl128, zl129, zl130, zl137, zl150, zl160, zl169, zl254, zl255, zl256, zl4000, zl65535, zl65536, if_pos, if_neg, zn_inb, zn_cl, zn_eq, zn_lt, zn_le, zn_add, zn_sub, zn_mul, zn_addn, zn_eqn, zn_neq, zn_nlt, zn_nle, zn_ckb, isB_b2i, b2z0, b2z1, b2it, b2if, R.1.2.2.1, nx, S.1.2, tg, c1, e0, e2', em]
        rw [E]
        rw [rT_s, ent_s ⟨c, c1⟩]
        cases hl2 : lnR b (a + 1) e true with
        | none =>
          rw [hl2] at q2
          obtain ⟨a', B⟩ := q2
          rw [el59_b B.2.2.2.1 hn (by omega)]
          exact ⟨h2, rfl, RV.bad B.2.2.2.1 (by have := R.2.2.2.2.2; omega)⟩
        | some wl =>
          obtain ⟨w1, a1⟩ := wl
          rw [hl2] at q2
          obtain ⟨R2, f1, f2, f3, f4, K2, KT0⟩ := q2
          have KT : KTg h h2 := ⟨KT0.1.trans (by rw [gI_sI, if_neg (by decide)]), KT0.2.1.trans (by rw [gI_sI, if_neg (by decide)]), KT0.2.2⟩
          obtain ⟨le1, le2⟩ := lnR_le hl2
          have le3 : a1 ≤ lnE w1 a1 e ∧ lnE w1 a1 e ≤ e := by
            cases w1 with
            | none => simp only [Option.getD] at le2; exact ⟨by show a1 ≤ e; omega, Nat.le_refl _⟩
            | some k => simp only [Option.getD] at le2; exact ⟨by show a1 ≤ a1 + k; omega, le2⟩
          have K12 : KM fr m u h h2 := ((KM.rf fr m u h).sI (by decide)).tr (Nat.le_refl _) (Nat.le_refl _) (Nat.le_refl _) K2
          have T623 : TgA h al → gI h 623 3000 = zI ↑q → TgA h2 al ∧ gI h2 623 3000 = zI ↑q := by
            intro z1 z2
            exact ⟨⟨KT.2.1.trans z1.1, fun i y hy => (KT.2.2 i).trans (z1.2 i y hy)⟩, KT.1.trans z2⟩
          obtain ⟨h3, e3, k3, h4, r3, p3⟩ := ih (ys ++ [x]) zs g h2 a1 (fr + 1) (lnE w1 a1 e) (by rw [ha]; simp) hz hl (fun y hy => hx y (List.mem_cons_of_mem _ hy)) (K12.ms S) R2 (K12.mt T) (by omega) (by omega) (T623 TA hb).1 (T623 TA hb).2 (by omega)
          refine ⟨h3, e3, ?_⟩
          dsimp only
          cases hr3 : rT b k xs a1 (lnE w1 a1 e) with
          | none =>
            rw [hr3] at p3
            exact ⟨k3, h4, r3, p3.1, by omega⟩
          | some z =>
            obtain ⟨v, a2⟩ := z
            rw [hr3] at p3
            obtain ⟨⟨R4, P4, K4⟩, hk4⟩ := p3
            have K24 : KM fr m u h h4 := K12.tr (by omega) (Nat.le_refl _) (Nat.le_refl _) K4
            have g1 : gA h4 3031 fr = -1 := by rw [K4.2.2.2.1 _ _ (by omega) (by omega) (by omega)]; exact f1
            have g3 : gA h4 3035 fr = b2i w1.isNone := by rw [K4.2.2.2.1 _ _ (by omega) (by omega) (by omega)]; exact f3
            have le4 : a2 ≤ lnE w1 a1 e := R4.2.2.2.2.2
            obtain ⟨h5, e5, q5⟩ := tag_go (F := F) (dd := dd) (K24.ms S) R4 (by omega) g1 g3 (R.2.1.km K24) le3.2
            unfold rTp
            dsimp only
            cases hl5 : lea b a2 (lnE w1 a1 e) w1.isNone with
            | none =>
              rw [hl5] at q5
              refine ⟨k3 + 1, h5, fun nf => ?_, q5, by omega⟩
              rw [show nf + (k3 + 1) = (nf + 1) + k3 by omega, r3, L_go R4 hr, e5, cv_s]
            | some a3 =>
              rw [hl5] at q5
              have := (lea_le hl5).1
              refine ⟨k3 + 1, h5, fun nf => ?_, ⟨q5.1, P4.km q5.2 (Nat.le_refl _) (Nat.le_refl _), K24.tr (Nat.le_refl _) (by omega) (by omega) q5.2⟩, by omega⟩
              rw [show nf + (k3 + 1) = (nf + 1) + k3 by omega, r3, L_go R4 hr, e5, cv_s]
      · apply badcase (ent0 (fun z => c1 z.2))
        refine ⟨sI (sI h 647 3000 (zI ↑(a + 1))) 649 3000 (zI ↑(0 : Nat)), ?_, by unfold Bad; rw [gI_sI, if_pos ⟨rfl, rfl⟩]⟩
        rw [fX6_element_59]
        unfold fX6_element_99 fX6_element_100 fX6_element_115
        simp (disch := omega) only [mp607, mp608, mp609, mp611, mp612, mp613, mp614, mp615, mp616, mp617, mp618, mp619, mp620, mp621, mp622, mp625, mp626, mp631, mp632, mp633, mp636, mp637, mp638, mp639, mp640, mp641, mp642, mp643, mp645, mp646, mp650, mp651, mp652, mp653, mp654, mp655, mp656, mp657, mp658, ln3001, ln3002, ln3003, ln3004, ln3005, ln3006, ln3007, ln3008, ln3009, ln3010, ln3011, ln3012, ln3013, ln3014, ln3015, ln3016, ln3017, ln3018, ln3019, ln3020, ln3021, ln3022, ln3023, ln3024, ln3025, ln3026, ln3027, ln3028, ln3029, ln3030, ln3031, ln3032, ln3033, ln3034, ln3035, ln3036, ln3037, ln3038, ln3039, ck_t, nn_s, bn_d, ca_s, cv_s, oc_n, oc_s, cx_i, cx_r, cy_i, cy_r, gI_sI, gI_sP, gI_sA, gI_sR, gI_sJ, gI_nw, gI_nx, gP_sI, gP_sP, gP_sA, gP_sR, gP_sJ, gP_nw, gP_nx, gA_sI, gA_sP, gA_sA, gA_sR, gA_sJ, gA_nw, gA_nx, gR_sI, gR_sP, gR_sA, gR_sR, gR_sJ, gR_nw, gR_nx, reduceCtorEq, Nat.reduceEqDiff, or_self, or_true, true_or, or_false, false_or, eq_self, and_self, and_true, true_and, and_false, false_and, if_true, if_false, ↓reduceIte, ne_eq, not_true_eq_false, not_false_eq_true, zl0, zl1, zl2, zl3, zl4, zl5, zl6, zl7, zl8, zl9, zl10, zl12, zl15, zl16, zl20, zl31, zl32, zl48, zl97, zl99, zl100, zl120, zl127, zl128, zl129, zl130, zl137, zl150, zl160, zl169, zl254, zl255, zl256, zl4000, zl65535, zl65536, if_pos, if_neg, zn_inb, zn_cl, zn_eq, zn_lt, zn_le, zn_add, zn_sub, zn_mul, zn_addn, zn_eqn, zn_neq, zn_nlt, zn_nle, zn_ckb, isB_b2i, b2z0, b2z1, b2it, b2if, R.1.2.2.1, nx, S.1.2, tg]
        exact el59_b (by unfold Bad; rw [gI_sI, if_pos ⟨rfl, rfl⟩]) hn (by omega)
    · apply badcase (ent0 (fun z => c z.1))
      have nx := mn_out (F := F) (d := dd) S R (by omega) he
      refine ⟨sI (sI (sI h 649 3000 (zI ↑(0 : Nat))) 647 3000 (zI ↑(a + 1))) 649 3000 (zI ↑(0 : Nat)), ?_, by unfold Bad; rw [gI_sI, if_pos ⟨rfl, rfl⟩]⟩
      have r10 := R.2.2.2.2.2
      rw [fX6_element_59]
      unfold fX6_element_99 fX6_element_100 fX6_element_115
      by_cases c2 : 0 = x
      · simp (disch := omega) only [mp607, mp608, mp609, mp611, mp612, mp613, mp614, mp615, mp616, mp617, mp618, mp619, mp620, mp621, mp622, mp625, mp626, mp631, mp632, mp633, mp636, mp637, mp638, mp639, mp640, mp641, mp642, mp643, mp645, mp646, mp650, mp651, mp652, mp653, mp654, mp655, mp656, mp657, mp658, ln3001, ln3002, ln3003, ln3004, ln3005, ln3006, ln3007, ln3008, ln3009, ln3010, ln3011, ln3012, ln3013, ln3014, ln3015, ln3016, ln3017, ln3018, ln3019, ln3020, ln3021, ln3022, ln3023, ln3024, ln3025, ln3026, ln3027, ln3028, ln3029, ln3030, ln3031, ln3032, ln3033, ln3034, ln3035, ln3036, ln3037, ln3038, ln3039, ck_t, nn_s, bn_d, ca_s, cv_s, oc_n, oc_s, cx_i, cx_r, cy_i, cy_r, gI_sI, gI_sP, gI_sA, gI_sR, gI_sJ, gI_nw, gI_nx, gP_sI, gP_sP, gP_sA, gP_sR, gP_sJ, gP_nw, gP_nx, gA_sI, gA_sP, gA_sA, gA_sR, gA_sJ, gA_nw, gA_nx, gR_sI, gR_sP, gR_sA, gR_sR, gR_sJ, gR_nw, gR_nx, reduceCtorEq, Nat.reduceEqDiff, or_self, or_true, true_or, or_false, false_or, eq_self, and_self, and_true, true_and, and_false, false_and, if_true, if_false, ↓reduceIte, ne_eq, not_true_eq_false, not_false_eq_true, zl0, zl1, zl2, zl3, zl4, zl5, zl6, zl7, zl8, zl9, zl10, zl12, zl15, zl16, zl20, zl31, zl32, zl48, zl97, zl99, zl100, zl120, zl127, zl128, zl129, zl130, zl137, zl150, zl160, zl169, zl254, zl255, zl256, zl4000, zl65535, zl65536, if_pos, if_neg, zn_inb, zn_cl, zn_eq, zn_lt, zn_le, zn_add, zn_sub, zn_mul, zn_addn, zn_eqn, zn_neq, zn_nlt, zn_nle, zn_ckb, isB_b2i, b2z0, b2z1, b2it, b2if, R.1.2.2.1, nx, S.1.2, tg]
        exact el59_b (by unfold Bad; rw [gI_sI, if_pos ⟨rfl, rfl⟩]) hn (by omega)
      · simp (disch := omega) only [mp607, mp608, mp609, mp611, mp612, mp613, mp614, mp615, mp616, mp617, mp618, mp619, mp620, mp621, mp622, mp625, mp626, mp631, mp632, mp633, mp636, mp637, mp638, mp639, mp640, mp641, mp642, mp643, mp645, mp646, mp650, mp651, mp652, mp653, mp654, mp655, mp656, mp657, mp658, ln3001, ln3002, ln3003, ln3004, ln3005, ln3006, ln3007, ln3008, ln3009, ln3010, ln3011, ln3012, ln3013, ln3014, ln3015, ln3016, ln3017, ln3018, ln3019, ln3020, ln3021, ln3022, ln3023, ln3024, ln3025, ln3026, ln3027, ln3028, ln3029, ln3030, ln3031, ln3032, ln3033, ln3034, ln3035, ln3036, ln3037, ln3038, ln3039, ck_t, nn_s, bn_d, ca_s, cv_s, oc_n, oc_s, cx_i, cx_r, cy_i, cy_r, gI_sI, gI_sP, gI_sA, gI_sR, gI_sJ, gI_nw, gI_nx, gP_sI, gP_sP, gP_sA, gP_sR, gP_sJ, gP_nw, gP_nx, gA_sI, gA_sP, gA_sA, gA_sR, gA_sJ, gA_nw, gA_nx, gR_sI, gR_sP, gR_sA, gR_sR, gR_sJ, gR_nw, gR_nx, reduceCtorEq, Nat.reduceEqDiff, or_self, or_true, true_or, or_false, false_or, eq_self, and_self, and_true, true_and, and_false, false_and, if_true, if_false, ↓reduceIte, ne_eq, not_true_eq_false, not_false_eq_true, zl0, zl1, zl2, zl3, zl4, zl5, zl6, zl7, zl8, zl9, zl10, zl12, zl15, zl16, zl20, zl31, zl32, zl48, zl97, zl99, zl100, zl120, zl127, zl128, zl129, zl130, zl137, zl150, zl160, zl169, zl254, zl255, zl256, zl4000, zl65535, zl65536, if_pos, if_neg, zn_inb, zn_cl, zn_eq, zn_lt, zn_le, zn_add, zn_sub, zn_mul, zn_addn, zn_eqn, zn_neq, zn_nlt, zn_nle, zn_ckb, isB_b2i, b2z0, b2z1, b2it, b2if, R.1.2.2.1, nx, S.1.2, tg]
        exact el59_b (by unfold Bad; rw [gI_sI, if_pos ⟨rfl, rfl⟩]) hn (by omega)
end Ru
