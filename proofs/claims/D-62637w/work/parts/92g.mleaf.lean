/-! THE MODEL READS BITS (6): ints of bytes; runs of packed reading; leaves -/
set_option maxRecDepth 100000
theorem zI_cong {z w : Int} (k : Int) (h : z = w + k * 4294967296) : zI z = zI w := by
  rw [h, ← zI_add, ← zI_mul, show zI 4294967296 = 0 by decide, Int32.mul_zero, Int32.add_zero]
theorem shl8_or (a : Int) {x : Nat} (hx : x < 256) : (zI a <<< 8) ||| Int32.ofNat x = zI (a * 256 + x) := by
  obtain ⟨m, k, hm⟩ : ∃ (m : Nat) (k : Int), a = m + k * 16777216 := ⟨(a % 16777216).toNat, a / 16777216, by omega⟩
  have p8 : (2 : Int) ^ 8 = 256 := by decide
  rw [zI_nat, show (8 : Int32) = zI ↑(8 : Nat) from rfl, zI_shl (by omega), p8, zI_cong (w := ((2 ^ 8 * m : Nat) : Int)) k (by omega), zI_or, ← Nat.two_pow_add_eq_or_of_lt (by omega)]
  exact (zI_cong k (by omega)).symm
theorem fold_bv : ∀ (l : List Nat) (a : Int), (∀ x ∈ l, x < 256) → l.foldl (fun (v : Int32) (x : Nat) => (v <<< 8) ||| Int32.ofNat x) (zI a) = zI (l.foldl (fun (z : Int) (x : Nat) => z * 256 + x) a) := by
  intro l
  induction l with
  | nil => intro a _; rfl
  | cons x l ih =>
    intro a h
    rw [List.foldl_cons, List.foldl_cons, shl8_or a (h x List.mem_cons_self)]
    exact ih _ (fun y hy => h y (List.mem_cons_of_mem _ hy))
section Iv
variable {b : Nat → Nat}
theorem tkv_app (p k : Nat) : ∀ i, tkv b p (k + i) = tkv b p k * 2 ^ i + tkv b (p + k) i := by
  intro i
  induction i with
  | zero => show tkv b p k = tkv b p k * 2 ^ 0 + 0; omega
  | succ i ih =>
    rw [← Nat.add_assoc, tkv, tkv, ih, Nat.pow_succ, Nat.add_assoc p k i, Nat.mul_add, ← Nat.mul_assoc, ← Nat.mul_assoc, Nat.mul_comm 2]
    have : tkv b p k * 2 * 2 ^ i = tkv b p k * 2 ^ i * 2 := by rw [Nat.mul_assoc, Nat.mul_assoc, Nat.mul_comm 2]
    omega
theorem shsh {w s Q P : Nat} (hs : s < 32) (hP : (2 : Int) ^ s = P) (hQ : P * Q = 4294967296) (hw : w < Q) : (zI ↑w <<< zI ↑s) >>> zI ↑s = zI (if 2 * w < Q then (w : Int) else w - Q) := by
  have P0 : 0 < P := by
    rcases Nat.eq_zero_or_pos P with z | z
    · rw [z, Nat.zero_mul] at hQ; omega
    · exact z
  have hPi : (P : Int) ≠ 0 := by omega
  have hQi : (P : Int) * Q = 4294967296 := by rw [← Int.natCast_mul, hQ]; rfl
  rw [zI_shl hs, hP]
  by_cases c : 2 * w < Q
  · rw [if_pos c]
    have h1 : 2 * w * P < Q * P := Nat.mul_lt_mul_of_pos_right c P0
    have h2 : (w * P : Nat) < 2147483648 := by
      have e1 : 2 * w * P = 2 * (w * P) := by rw [Nat.mul_assoc]
      have e2 : Q * P = P * Q := Nat.mul_comm _ _
      omega
    have h3 : ((w : Int) * P) = ((w * P : Nat) : Int) := by push_cast; rfl
    rw [zI_shr (by omega) (by omega) hs, hP, Int.mul_ediv_cancel _ hPi]
  · rw [if_neg c]
    have h1 : Q * P ≤ 2 * w * P := Nat.mul_le_mul_right P (by omega)
    have h4 : w * P < Q * P := Nat.mul_lt_mul_of_pos_right hw P0
    have e1 : 2 * w * P = 2 * (w * P) := by rw [Nat.mul_assoc]
    have e2 : Q * P = P * Q := Nat.mul_comm _ _
    have h3 : ((w : Int) * P) = ((w * P : Nat) : Int) := by push_cast; rfl
    have h5 : ((w : Int) - Q) * P = (w : Int) * P - 4294967296 := by rw [Int.sub_mul, Int.mul_comm (Q : Int), hQi]
    rw [zI_cong (w := ((w : Int) - Q) * P) 1 (by omega), zI_shr (by omega) (by omega) hs, hP, Int.mul_ediv_cancel _ hPi]
theorem sx_ok {v p : Nat} (hv : 1 ≤ v) (hv4 : v ≤ 4) : (zI ↑(tkv b p (8 * v)) <<< ((32 - 8 * zI ↑v) &&& 31)) >>> ((32 - 8 * zI ↑v) &&& 31) = ivL (octs b p v) := by
  have L : ∀ x, tkv b x 8 < 256 := fun x => tkv_lt b x 8
  have : v = 1 ∨ v = 2 ∨ v = 3 ∨ v = 4 := by omega
  rcases this with e | e | e | e
  · subst e
    have hw : tkv b p (8 * 1) = tkv b (p + 8 * 0) 8 := by simp
    rw [show (32 - 8 * zI ↑(1 : Nat)) &&& 31 = zI ↑(24 : Nat) by decide, shsh (Q := 256) (P := 16777216) (by omega) (by decide) (by decide) (by rw [hw]; exact L _), hw]
    show _ = List.foldl _ (if 127 < tkv b (p + 8 * 0) 8 then (-1 : Int32) else 0) [tkv b (p + 8 * 0) 8]
    have h0 := L (p + 8 * 0)
    generalize tkv b (p + 8 * 0) 8 = o0 at *
    have al : ∀ x ∈ [o0], x < 256 := fun x hx => by
      rcases List.mem_cons.mp hx with z | hx
      · omega
      cases hx
    by_cases c : 127 < o0
    · rw [if_pos c, if_neg (by omega), show (-1 : Int32) = zI (-1) from rfl, fold_bv _ _ al]
      congr 1 <;> (simp only [List.foldl_cons, List.foldl_nil]; omega)
    · rw [if_neg c, if_pos (by omega), show (0 : Int32) = zI 0 from rfl, fold_bv _ _ al]
      congr 1 <;> (simp only [List.foldl_cons, List.foldl_nil]; omega)
  · subst e
    have hw : tkv b p (8 * 2) = tkv b (p + 8 * 0) 8 * 256 + tkv b (p + 8 * 1) 8 := by rw [show 8 * 2 = 8 + 8 from rfl, tkv_app]; rfl
    have h0 := L (p + 8 * 0)
    have h1 := L (p + 8 * 1)
    rw [show (32 - 8 * zI ↑(2 : Nat)) &&& 31 = zI ↑(16 : Nat) by decide, shsh (Q := 65536) (P := 65536) (by omega) (by decide) (by decide) (by rw [hw]; omega), hw]
    show _ = List.foldl _ (if 127 < tkv b (p + 8 * 0) 8 then (-1 : Int32) else 0) [tkv b (p + 8 * 0) 8, tkv b (p + 8 * 1) 8]
    generalize tkv b (p + 8 * 0) 8 = o0 at *
    generalize tkv b (p + 8 * 1) 8 = o1 at *
    have al : ∀ x ∈ [o0, o1], x < 256 := fun x hx => by
      rcases List.mem_cons.mp hx with z | hx
      · omega
      rcases List.mem_cons.mp hx with z | hx
      · omega
      cases hx
    by_cases c : 127 < o0
    · rw [if_pos c, if_neg (by omega), show (-1 : Int32) = zI (-1) from rfl, fold_bv _ _ al]
      congr 1 <;> (simp only [List.foldl_cons, List.foldl_nil]; omega)
    · rw [if_neg c, if_pos (by omega), show (0 : Int32) = zI 0 from rfl, fold_bv _ _ al]
      congr 1 <;> (simp only [List.foldl_cons, List.foldl_nil]; omega)
  · subst e
    have hw : tkv b p (8 * 3) = (tkv b (p + 8 * 0) 8 * 256 + tkv b (p + 8 * 1) 8) * 256 + tkv b (p + 8 * 2) 8 := by rw [show 8 * 3 = 8 + 8 + 8 from rfl, tkv_app, tkv_app]; rfl
    have h0 := L (p + 8 * 0)
    have h1 := L (p + 8 * 1)
    have h2 := L (p + 8 * 2)
    rw [show (32 - 8 * zI ↑(3 : Nat)) &&& 31 = zI ↑(8 : Nat) by decide, shsh (Q := 16777216) (P := 256) (by omega) (by decide) (by decide) (by rw [hw]; omega), hw]
    show _ = List.foldl _ (if 127 < tkv b (p + 8 * 0) 8 then (-1 : Int32) else 0) [tkv b (p + 8 * 0) 8, tkv b (p + 8 * 1) 8, tkv b (p + 8 * 2) 8]
    generalize tkv b (p + 8 * 0) 8 = o0 at *
    generalize tkv b (p + 8 * 1) 8 = o1 at *
    generalize tkv b (p + 8 * 2) 8 = o2 at *
    have al : ∀ x ∈ [o0, o1, o2], x < 256 := fun x hx => by
      rcases List.mem_cons.mp hx with z | hx
      · omega
      rcases List.mem_cons.mp hx with z | hx
      · omega
      rcases List.mem_cons.mp hx with z | hx
      · omega
      cases hx
    by_cases c : 127 < o0
    · rw [if_pos c, if_neg (by omega), show (-1 : Int32) = zI (-1) from rfl, fold_bv _ _ al]
      congr 1 <;> (simp only [List.foldl_cons, List.foldl_nil]; omega)
    · rw [if_neg c, if_pos (by omega), show (0 : Int32) = zI 0 from rfl, fold_bv _ _ al]
      congr 1 <;> (simp only [List.foldl_cons, List.foldl_nil]; omega)
  · subst e
    have hw : tkv b p (8 * 4) = ((tkv b (p + 8 * 0) 8 * 256 + tkv b (p + 8 * 1) 8) * 256 + tkv b (p + 8 * 2) 8) * 256 + tkv b (p + 8 * 3) 8 := by rw [show 8 * 4 = 8 + 8 + 8 + 8 from rfl, tkv_app, tkv_app, tkv_app]; rfl
    have h0 := L (p + 8 * 0)
    have h1 := L (p + 8 * 1)
    have h2 := L (p + 8 * 2)
    have h3 := L (p + 8 * 3)
    rw [show (32 - 8 * zI ↑(4 : Nat)) &&& 31 = zI ↑(0 : Nat) by decide, shsh (Q := 4294967296) (P := 1) (by omega) (by decide) (by decide) (by rw [hw]; omega), hw]
    show _ = List.foldl _ (if 127 < tkv b (p + 8 * 0) 8 then (-1 : Int32) else 0) [tkv b (p + 8 * 0) 8, tkv b (p + 8 * 1) 8, tkv b (p + 8 * 2) 8, tkv b (p + 8 * 3) 8]
    generalize tkv b (p + 8 * 0) 8 = o0 at *
    generalize tkv b (p + 8 * 1) 8 = o1 at *
    generalize tkv b (p + 8 * 2) 8 = o2 at *
    generalize tkv b (p + 8 * 3) 8 = o3 at *
    have al : ∀ x ∈ [o0, o1, o2, o3], x < 256 := fun x hx => by
      rcases List.mem_cons.mp hx with z | hx
      · omega
      rcases List.mem_cons.mp hx with z | hx
      · omega
      rcases List.mem_cons.mp hx with z | hx
      · omega
      rcases List.mem_cons.mp hx with z | hx
      · omega
      cases hx
    by_cases c : 127 < o0
    · rw [if_pos c, if_neg (by omega), show (-1 : Int32) = zI (-1) from rfl, fold_bv _ _ al]
      congr 1 <;> (simp only [List.foldl_cons, List.foldl_nil]; omega)
    · rw [if_neg c, if_pos (by omega), show (0 : Int32) = zI 0 from rfl, fold_bv _ _ al]
      congr 1 <;> (simp only [List.foldl_cons, List.foldl_nil]; omega)
end Iv
/-- what packed reading comes to, by k more steps of the loop -/
def RU (F dd : Nat) (τ : Tb) (t as : Nat) (of : Int32) (h0 h : Hp) (c0 n fr m u : Nat) {d : Nat} (x : Option (Vt d × Nat)) : Prop :=
  ∃ k h', (∀ nf, fX6_isValue_47 F dd (nf + k) 3000 2 h = fX6_isValue_47 F dd nf 3000 2 h') ∧ (match x with
    | none => Bad h' ∧ k + c0 ≤ 1000
    | some (v, p') => (MK h' n p' fr (m + sz d v) (u + oz d v) ∧ PV h' τ d v m u of as t ∧ KM fr m u h0 h') ∧ k + c0 + 1 ≤ 9 * (m + sz d v))
theorem KM.pq {fr m u : Nat} {h h' : Hp} (a : PQ h h') : KM fr m u h h' := by
  refine ⟨⟨a.1.1, a.1.2.1, a.1.2.2.1⟩, fun g y q => a.2 g y (fun z => q ⟨z.1, ?_⟩), fun y i _ => by rw [a.1.2.2.2], fun y i _ _ _ => by rw [a.1.2.2.2], fun y i _ _ _ => by rw [a.1.2.2.2], fun i _ => by rw [a.1.2.2.2]⟩
  rcases z.2 with w | w <;> rw [w] <;> decide
theorem KM.oq {fr m u lo : Nat} {h h' : Hp} (a : OQ lo h h') (hu : u ≤ lo) : KM fr m u h h' := by
  refine ⟨a.1, fun g y q => a.2.1 g y (fun z => q ⟨z.1, ?_⟩), fun y i q => a.2.2 y i (fun z => ?_), fun y i p q _ => a.2.2 y i (by omega), fun y i p q _ => a.2.2 y i (by omega), fun i hi => a.2.2 _ i (by omega)⟩
  · rcases z.2 with w | w | w <;> rw [w] <;> decide
  · rw [z.1] at q; revert q; decide
section Lf
variable {F dd n p fr m u N : Nat} {b : Nat → Nat} {τ : Tb}
theorem RU.bad {t as c0 d : Nat} {of : Int32} {h0 h : Hp} (B : Bad h) (hc : c0 ≤ 1000) : RU F dd τ t as of h0 h c0 n fr m u (none : Option (Vt d × Nat)) :=
  ⟨0, h, fun _ => rfl, B, by omega⟩
theorem cnt_rg {T q p1 : Nat} {x : Int32} (ok : okS τ q) (h : cnt b T τ q p = some (x, p1)) : ∃ K : Nat, K ≤ 127 ∧ x = zI ↑K ∧ (tB τ q = true → inR x (tLo τ q) (tHi τ q) = true) := by
  unfold cnt at h
  cases hB : tB τ q with
  | false =>
    rw [hB] at h
    rw [if_neg (by decide)] at h
    split at h
    · cases h
    · next v p2 _ =>
      split at h
      · next c => cases h; exact ⟨v, c, zI_nat v, fun z => by cases z⟩
      · cases h
  | true =>
    rw [hB, if_pos rfl] at h
    obtain ⟨lo, hi, o1, o2, o3, o4⟩ := ok hB
    have hM : tHi τ q - tLo τ q = zI ↑(hi - lo) := by rw [o1, o2, zn_sub o3]
    unfold rngI spn at h
    rw [hM, zn_cl (by omega)] at h
    split at h
    · cases h
    · next v p2 e =>
      cases h
      rw [rng_eq] at e
      split at e
      · next c =>
        cases e
        refine ⟨lo + tkv b (rgp (hi - lo) p) (rwd (hi - lo)), by omega, by rw [o1, zI_nat, zn_add], fun _ => ?_⟩
        rw [o1, o2, zI_nat, zn_add, inR_out (by omega) (by omega) (by omega)]
        exact decide_eq_true ⟨by omega, by omega⟩
      · cases e
/-- a leaf is at its end -/
theorem pl_fin {h h2 h3 : Hp} {t as p1 : Nat} {of v0 : Int32} (K : KM fr m u h h2) (R2 : MK h2 n p fr (m + 1) u) (P2 : PtI h2 m t of as v0 u) (Q : PQ h2 h3) (G : PG h3 p1) (l1 : p ≤ p1) (l2 : p1 ≤ 8 * n) (x : Int32) :
    MK (sA h3 3022 m x) n p1 fr (m + 1) u ∧ PtI (sA h3 3022 m x) m t of as x u ∧ KM fr m u h (sA h3 3022 m x) := by
  have R3 := Q.mk R2 G l1 l2
  obtain ⟨p1, p2, p3, p4, p5⟩ := P2
  refine ⟨R3, ⟨?_, ?_, ?_, ?_, ?_⟩, ((K.tr (Nat.le_refl _) (Nat.le_refl _) (Nat.le_refl _) (KM.pq Q)).sA (by decide) (fun _ _ => by omega) (fun _ _ => Nat.le_refl _) (fun _ => by omega))⟩
  · rw [gA_sA, if_neg (by omega), Q.1.2.2.2]; exact p1
  · rw [gA_sA, if_neg (by omega), Q.1.2.2.2]; exact p2
  · rw [gA_sA, if_neg (by omega), Q.1.2.2.2]; exact p3
  · rw [gA_sA, if_pos ⟨rfl, rfl⟩]
  · rw [gA_sA, if_neg (by omega), Q.1.2.2.2]; exact p5
theorem RU.leaf {h0 h : Hp} {t as c0 p1 q d : Nat} {of x : Int32} (R : MK h n p1 fr (m + 1) u) (P : PtI h m t of as x u) (K : KM fr m u h0 h) (hc : c0 + 1 ≤ 9 * (m + 1)) : RU F dd τ t as of h0 h c0 n fr m u (some ((mkV q x [] [] : Vt (d + 1)), p1)) :=
  ⟨0, h, fun _ => rfl, ⟨R, ⟨P, fun i x hx => (by cases hx), trivial⟩, K⟩, by show 0 + c0 + 1 ≤ 9 * (m + 1); omega⟩
theorem w270_b {h : Hp} {i nf : Nat} (M : MP h) (B : Bad h) (hi : i < 100) (hn : 0 < nf) : ∃ h', fX6_want_270 F dd nf 3000 (zI ↑i) (zI ↑(0 : Nat)) h = some h' ∧ Bad h' := by
  obtain ⟨f, rfl⟩ : ∃ f, nf = f + 1 := ⟨nf - 1, by omega⟩
  unfold Bad at B
  rw [fX6_want_270]
  unfold fX6_want_313 fX6_want_336
  have ok : Bad (sI h 635 3000 (gI h 635 3000 + zI ↑(0 : Nat))) := by unfold Bad; rw [gI_sI, if_neg (by omega)]; exact B
  by_cases c : gA h 3022 i ≤ zI ↑(0 : Nat)
  · simp (disch := omega) only [mp607, mp608, mp609, mp611, mp612, mp613, mp614, mp615, mp616, mp617, mp618, mp619, mp620, mp621, mp622, mp625, mp626, mp631, mp632, mp633, mp636, mp637, mp638, mp639, mp640, mp641, mp642, mp643, mp645, mp646, mp650, mp651, mp652, mp653, mp654, mp655, mp656, mp657, mp658, ln3001, ln3002, ln3003, ln3004, ln3005, ln3006, ln3007, ln3008, ln3009, ln3010, ln3011, ln3012, ln3013, ln3014, ln3015, ln3016, ln3017, ln3018, ln3019, ln3020, ln3021, ln3022, ln3023, ln3024, ln3025, ln3026, ln3027, ln3028, ln3029, ln3030, ln3031, ln3032, ln3033, ln3034, ln3035, ln3036, ln3037, ln3038, ln3039, ck_t, nn_s, bn_d, ca_s, cv_s, oc_n, oc_s, cx_i, cx_r, cy_i, cy_r, gI_sI, gI_sP, gI_sA, gI_sR, gI_sJ, gI_nw, gI_nx, gP_sI, gP_sP, gP_sA, gP_sR, gP_sJ, gP_nw, gP_nx, gA_sI, gA_sP, gA_sA, gA_sR, gA_sJ, gA_nw, gA_nx, gR_sI, gR_sP, gR_sA, gR_sR, gR_sJ, gR_nw, gR_nx, reduceCtorEq, Nat.reduceEqDiff, or_self, or_true, true_or, or_false, false_or, eq_self, and_self, and_true, true_and, and_false, false_and, if_true, if_false, ↓reduceIte, ne_eq, not_true_eq_false, not_false_eq_true, zl0, zl1, zl2, zl3, zl4, zl5, zl6, zl7, zl8, zl9, zl10, zl12, zl15, zl16, zl20, zl31, zl32, zl48, zl97, zl99, zl100, zl120, zl127, zl128, zl129, zl130, zl137, zl150, zl160, zl169, zl254, zl255, zl256, zl4000, zl65535, zl65536, if_pos, if_neg, zn_inb, zn_cl, zn_eq, zn_lt, zn_le, zn_add, zn_sub, zn_mul, zn_addn, zn_eqn, zn_neq, zn_nlt, zn_nle, zn_ckb, isB_b2i, b2z0, b2z1, b2it, b2if, M.2, B, c]
    exact ⟨_, rfl, ok⟩
  · simp (disch := omega) only [mp607, mp608, mp609, mp611, mp612, mp613, mp614, mp615, mp616, mp617, mp618, mp619, mp620, mp621, mp622, mp625, mp626, mp631, mp632, mp633, mp636, mp637, mp638, mp639, mp640, mp641, mp642, mp643, mp645, mp646, mp650, mp651, mp652, mp653, mp654, mp655, mp656, mp657, mp658, ln3001, ln3002, ln3003, ln3004, ln3005, ln3006, ln3007, ln3008, ln3009, ln3010, ln3011, ln3012, ln3013, ln3014, ln3015, ln3016, ln3017, ln3018, ln3019, ln3020, ln3021, ln3022, ln3023, ln3024, ln3025, ln3026, ln3027, ln3028, ln3029, ln3030, ln3031, ln3032, ln3033, ln3034, ln3035, ln3036, ln3037, ln3038, ln3039, ck_t, nn_s, bn_d, ca_s, cv_s, oc_n, oc_s, cx_i, cx_r, cy_i, cy_r, gI_sI, gI_sP, gI_sA, gI_sR, gI_sJ, gI_nw, gI_nx, gP_sI, gP_sP, gP_sA, gP_sR, gP_sJ, gP_nw, gP_nx, gA_sI, gA_sP, gA_sA, gA_sR, gA_sJ, gA_nw, gA_nx, gR_sI, gR_sP, gR_sA, gR_sR, gR_sJ, gR_nw, gR_nx, reduceCtorEq, Nat.reduceEqDiff, or_self, or_true, true_or, or_false, false_or, eq_self, and_self, and_true, true_and, and_false, false_and, if_true, if_false, ↓reduceIte, ne_eq, not_true_eq_false, not_false_eq_true, zl0, zl1, zl2, zl3, zl4, zl5, zl6, zl7, zl8, zl9, zl10, zl12, zl15, zl16, zl20, zl31, zl32, zl48, zl97, zl99, zl100, zl120, zl127, zl128, zl129, zl130, zl137, zl150, zl160, zl169, zl254, zl255, zl256, zl4000, zl65535, zl65536, if_pos, if_neg, zn_inb, zn_cl, zn_eq, zn_lt, zn_le, zn_add, zn_sub, zn_mul, zn_addn, zn_eqn, zn_neq, zn_nlt, zn_nle, zn_ckb, isB_b2i, b2z0, b2z1, b2it, b2if, M.2, B, c]
    exact ⟨_, rfl, ok⟩
/-- the part of a leaf, then what stands behind it -/
theorem w128_in {h : Hp} {t as : Nat} {of : Int32} (S : MSrc h b n) (R : MK h n p fr m u) :
    (m < 100 → ∃ h2, fX6_adds F dd 3000 (zI ↑t) of (zI ↑as) 0 h = some (zI ↑m, h2) ∧ MK h2 n p fr (m + 1) u ∧ PtI h2 m t of as 0 u ∧ KM fr m u h h2 ∧ gI h2 623 3000 = gI h 623 3000) ∧
    (¬ m < 100 → ∃ h2, fX6_want_128 F dd 3000 (zI ↑t) of (zI ↑as) h = some h2 ∧ Bad h2) := by
  constructor
  · intro hm
    obtain ⟨h2, e1, R2, P2, K2, b2, -, -⟩ := padds_ok (F := F) (dd := dd) S R hm t as of 0
    exact ⟨h2, e1, R2, P2, K2, b2⟩
  · intro hm
    have e1 := padds_no (F := F) (dd := dd) S R hm (zI ↑t) (zI ↑as) of 0
    have B : Bad (sI h 649 3000 (zI ↑(0 : Nat))) := by unfold Bad; rw [gI_sI, if_pos ⟨rfl, rfl⟩]
    refine ⟨sI h 649 3000 (zI ↑(0 : Nat)), ?_, B⟩
    unfold fX6_want_128
    rw [e1, ca_s, bn_d, B, if_pos z00]
end Lf
