/-! THE CLASS UNPACKS (1): bits -/
set_option maxRecDepth 100000
/-- bits, 0 beyond the end -/
def tkz (b : Nat → Nat) (T p : Nat) : Nat → Nat
  | 0 => 0
  | k + 1 => 2 * tkz b T p k + (if p + k < T then btA b (p + k) else 0)
theorem tkz_in (b : Nat → Nat) (T p : Nat) : ∀ k, p + k ≤ T → tkz b T p k = tkv b p k := by
  intro k
  induction k with
  | zero => intro _; rfl
  | succ k ih => intro h; rw [tkz, tkv, ih (by omega), if_pos (by omega)]
theorem btA_lt (b : Nat → Nat) (p : Nat) : btA b p < 2 := Nat.mod_lt _ (by decide)
theorem tkz_lt (b : Nat → Nat) (T p : Nat) : ∀ k, tkz b T p k < 2 ^ k := by
  intro k
  induction k with
  | zero => exact Nat.one_pos
  | succ k ih =>
    rw [tkz, Nat.pow_succ]
    have := btA_lt b (p + k)
    split <;> omega
theorem tkv_lt (b : Nat → Nat) (p k : Nat) : tkv b p k < 2 ^ k := by
  rw [← tkz_in b (p + k) p k (Nat.le_refl _)]; exact tkz_lt _ _ _ _
theorem wid_le (n k : Nat) : wid n ≤ k ↔ n < 2 ^ k := by
  unfold wid
  by_cases h : n = 0
  · rw [if_pos h, h]; exact ⟨fun _ => Nat.pow_pos (by decide), fun _ => Nat.zero_le _⟩
  · rw [if_neg h, ← Nat.log2_lt h]; omega
theorem wid_8 {n : Nat} (h : n < 255) : wid n ≤ 8 := (wid_le n 8).mpr (by omega)
theorem rwd_16 (n : Nat) : rwd n ≤ 16 := by
  unfold rwd
  split
  · next h => have := wid_8 h; omega
  · split <;> omega
section Bt
variable {h : Hp} {sb f n F d p : Nat} {b : Nat → Nat}
theorem wid_lp {x : Nat} (hx : x < 2147483648) : ∀ (r k nf : Nat), k + r = wid x → r < nf → fX1_width_2 F d nf (zI x) (zI k) h = some (zI ↑(wid x), h) := by
  have w31 : wid x ≤ 31 := (wid_le x 31).mpr hx
  intro r
  induction r with
  | zero =>
    intro k nf hk hn
    cases nf with
    | zero => omega
    | succ nf =>
      have : x / 2 ^ k = 0 := Nat.div_eq_of_lt ((wid_le x k).mp (by omega))
      rw [fX1_width_2, zn_31 (by omega), zn_shr hx (by omega), this, if_pos (show zI ↑(0 : Nat) = 0 from rfl), show k = wid x by omega]
  | succ r ih =>
    intro k nf hk hn
    cases nf with
    | zero => omega
    | succ nf =>
      have h1 : ¬ x < 2 ^ k := fun w => by have := (wid_le x k).mpr w; omega
      have h2 : ¬ x / 2 ^ k = 0 := by
        intro w
        rcases Nat.div_eq_zero_iff.mp w with z | z
        · have : 0 < 2 ^ k := Nat.pow_pos (by decide); omega
        · exact h1 z
      have h3 : x / 2 ^ k < 2147483648 := Nat.lt_of_le_of_lt (Nat.div_le_self _ _) hx
      rw [fX1_width_2, zn_31 (by omega), zn_shr hx (by omega), if_neg (zn_ne 0 (v := 0) h2 rfl h3 (by omega)), bn_d, zn_succ]
      exact ih (k + 1) nf (by omega) (by omega)
theorem wid_ok {x : Nat} (hx : x < 2147483648) (hF : 1000 ≤ F) : fX1_width F d (zI x) h = some (zI ↑(wid x), h) := by
  have w31 : wid x ≤ 31 := (wid_le x 31).mpr hx
  unfold fX1_width
  exact wid_lp hx (wid x) 0 F (by omega) (by omega)
/-- the bit that is next -/
def BtA (h : Hp) (f n p : Nat) : Prop := gI h 403 300 = zI ↑(8 * f + p) ∧ gI h 402 300 = zI ↑(f + n)
theorem BtA.st (A : BtA h f n p) (x : Nat) : BtA (sI h 403 300 (zI ↑(8 * f + x))) f n x := by
  refine ⟨?_, ?_⟩
  · rw [gI_sI, if_pos ⟨rfl, rfl⟩]
  · rw [gI_sI, if_neg (by decide)]; exact A.2
theorem bt_1 : ((List.range 256).all fun x => (List.range 8).all fun r => decide ((zI (x : Nat) >>> ((7 - zI (r : Nat)) &&& 31)) &&& 1 = zI ((x / 2 ^ (7 - r) % 2 : Nat) : Int))) = true := by decide +kernel
theorem bt_ok {x r : Nat} (hx : x < 256) (hr : r < 8) : (zI x >>> ((7 - zI r) &&& 31)) &&& 1 = zI ↑(x / 2 ^ (7 - r) % 2) :=
  of_decide_eq_true (List.all_eq_true.mp (List.all_eq_true.mp bt_1 x (List.mem_range.mpr hx)) r (List.mem_range.mpr hr))
theorem take_lp {k : Nat} (hk : k ≤ 16) (hp : p < 100000) : ∀ (r i nf : Nat) (h : Hp), SrcP h sb → Buf h f n b → BtA h f n (p + i) → i + r = k → r < nf →
    fX4_take_4 F d nf 300 (zI k) (zI ↑(tkz b (8 * n) p i)) (zI i) h = some (zI ↑(tkz b (8 * n) p k), sI h 403 300 (zI ↑(8 * f + (p + k)))) := by
  intro r
  induction r with
  | zero =>
    intro i nf h P B A hi hn
    cases nf with
    | zero => omega
    | succ nf =>
      have : i = k := by omega
      subst this
      rw [fX4_take_4, if_pos (Int32.le_refl _), sI_id A.1]
  | succ r ih =>
    intro i nf h P B A hi hn
    cases nf with
    | zero => omega
    | succ nf =>
      have hb := B.1
      have h402 : (8 : Int32) * gI h 402 300 = zI ↑(8 * (f + n)) := by rw [A.2, show (8 : Int32) = zI 8 from rfl, zI_mul]; congr 1
      have fin : ∀ s : Nat, s = (if p + i < 8 * n then btA b (p + i) else 0) → fX4_take_52 F d (fX4_take_4 F d nf) 300 (zI k) (zI ↑(tkz b (8 * n) p i)) (zI i) (zI s) h = some (zI ↑(tkz b (8 * n) p k), sI h 403 300 (zI ↑(8 * f + (p + k)))) := by
        intro s hs
        unfold fX4_take_52
        rw [bn_d, bn_d, bn_d, A.1, zn_succ, zn_succ]
        have e1 : (2 : Int32) * zI ↑(tkz b (8 * n) p i) + zI ↑s = zI ↑(tkz b (8 * n) p (i + 1)) := by
          rw [show (2 : Int32) = zI 2 from rfl, zI_mul, zI_add, tkz, ← hs]; congr 1
        rw [e1]
        have A1 := A.st (p + (i + 1))
        have e2 : 8 * f + (p + i) + 1 = 8 * f + (p + (i + 1)) := by omega
        rw [e2, ih (i + 1) nf (sI h 403 300 (zI ↑(8 * f + (p + (i + 1))))) P B A1 (by omega) (by omega), sI_sI]
      rw [fX4_take_4, if_neg (show ¬ zI ↑k ≤ zI ↑i from fun z => by rw [zn_le (by omega) (by omega)] at z; omega), h402, A.1]
      by_cases c : p + i < 8 * n
      · rw [if_neg (show ¬ zI ↑(8 * (f + n)) ≤ zI ↑(8 * f + (p + i)) from fun z => by rw [zn_le (by omega) (by omega)] at z; omega), P.2.1, nn_s]
        have d8 : zI ↑(8 * f + (p + i)) / 8 = zI ↑(f + (p + i) / 8) := by
          rw [show (8 : Int32) = zI 8 from rfl, zI_div (by omega) (by omega) (by omega) (by omega)]; congr 1; omega
        have r8 : zI ↑(8 * f + (p + i)) - zI ↑(8 * f + (p + i)) / 8 * 8 = zI ↑((p + i) % 8) := by
          rw [show (8 : Int32) = zI 8 from rfl, zI_rem (by omega) (by omega) (by omega) (by omega)]; congr 1; omega
        rw [d8, show nd_Ln 101 = 120 from rfl, zn_inb (show f + (p + i) / 8 < 120 by omega) (by omega), ck_t, bn_d, ← d8, r8, d8, zn_cl (by omega)]
        obtain ⟨b1, b2⟩ := B.2 ((p + i) / 8) (by omega)
        rw [b1, bt_ok b2 (Nat.mod_lt _ (by decide))]
        exact fin _ (by rw [if_pos c]; rfl)
      · rw [if_pos ((zn_le (by omega) (by omega)).mpr (by omega)), show (0 : Int32) = zI ↑(0 : Nat) from rfl]
        exact fin 0 (by rw [if_neg c])
theorem take_ok {k : Nat} (P : SrcP h sb) (B : Buf h f n b) (A : BtA h f n p) (hk : k ≤ 16) (hp : p < 100000) (hF : 1000 ≤ F) :
    fX4_take F d 300 (zI k) h = some (zI ↑(tkz b (8 * n) p k), sI h 403 300 (zI ↑(8 * f + (p + k)))) := by
  unfold fX4_take
  exact take_lp hk hp k 0 F h P B A (by omega) (by omega)
theorem alg_ok (A : BtA h f n p) (hf : f ≤ 120) (hp : p < 100000) : fX4_align F d 300 h = some (sI h 403 300 (zI ↑(8 * f + al8 p))) := by
  unfold fX4_align
  rw [A.1, bn_d, show (7 : Int32) = zI ↑(7 : Nat) from rfl, zn_add, show (8 : Int32) = zI 8 from rfl, zI_div (by omega) (by omega) (by omega) (by omega), zI_mul]
  congr 3
  unfold al8
  omega
theorem thr_ok (A : BtA h f n p) (hf : f + n ≤ 120) (hp : p < 100000) : fX4_isThere F d 300 h = some (b2i (decide (p ≤ 8 * n)), h) := by
  unfold fX4_isThere
  have h402 : (8 : Int32) * gI h 402 300 = zI ↑(8 * (f + n)) := by rw [A.2, show (8 : Int32) = zI 8 from rfl, zI_mul]; congr 1
  rw [h402, A.1]
  by_cases c : p ≤ 8 * n
  · rw [if_neg (show ¬ zI ↑(8 * (f + n)) < zI ↑(8 * f + p) from fun z => by rw [zn_lt (by omega) (by omega)] at z; omega), decide_eq_true c]; rfl
  · rw [if_pos ((zn_lt (by omega) (by omega)).mpr (by omega)), decide_eq_false c]; rfl
/-- where a number of a range begins -/
def rgp (N p : Nat) : Nat := if 254 < N then al8 p else p
theorem rgp_le (N p : Nat) : p ≤ rgp N p ∧ rgp N p ≤ p + 7 := by
  unfold rgp al8
  split <;> omega
theorem rng_eq (T N p : Nat) : rng b T N p = if rgp N p + rwd N ≤ T ∧ tkv b (rgp N p) (rwd N) ≤ N then some (tkv b (rgp N p) (rwd N), rgp N p + rwd N) else none := by
  unfold rng tk
  show (match (if rgp N p + rwd N ≤ T then some (tkv b (rgp N p) (rwd N), rgp N p + rwd N) else none) with | none => none | some (v, p1) => if v ≤ N then some (v, p1) else none) = _
  by_cases c : rgp N p + rwd N ≤ T
  · rw [if_pos c]
    by_cases c1 : tkv b (rgp N p) (rwd N) ≤ N
    · rw [if_pos ⟨c, c1⟩]; exact if_pos c1
    · rw [if_neg (fun w => c1 w.2)]; exact if_neg c1
  · rw [if_neg c, if_neg (fun w => c w.1)]
theorem tn_ok {lo hi : Int32} {N : Nat} (P : SrcP h sb) (B : Buf h f n b) (A : BtA h f n p) (hN : hi - lo = zI N) (hN2 : N ≤ 65535) (hp : p < 90000) (hF : 1000 ≤ F) :
    fX4_takeNumber F d 300 lo hi h = some (lo + zI ↑(tkz b (8 * n) (rgp N p) (rwd N)), sI h 403 300 (zI ↑(8 * f + (rgp N p + rwd N)))) := by
  have hb := B.1
  unfold fX4_takeNumber
  rw [bn_d, hN, zn_succ]
  by_cases c : 254 < N
  · rw [if_neg (show ¬ zI ↑(N + 1) ≤ 255 from fun z => by have := (zn_le (b := 255) (by omega) (by omega)).mp z; omega), alg_ok A (by omega) (by omega), cv_s]
    have e1 : rgp N p = al8 p := if_pos c
    have A1 := A.st (al8 p)
    unfold fX4_takeNumber_33
    have : al8 p < 100000 := by unfold al8; omega
    by_cases c1 : N = 255
    · have e2 : rwd N = 8 := by unfold rwd; rw [if_neg (by omega), if_pos c1]
      rw [if_pos (show zI ↑(N + 1) = 256 by rw [c1]; rfl), show (8 : Int32) = zI ↑(8 : Nat) from rfl, take_ok (h := sI h 403 300 (zI ↑(8 * f + al8 p))) P B A1 (by omega) this hF, ca_s, sI_sI, e1, e2]
    · have e2 : rwd N = 16 := by unfold rwd; rw [if_neg (by omega), if_neg c1]
      rw [if_neg (show ¬ zI ↑(N + 1) = 256 from zn_ne 256 (by omega) rfl (by omega) (by omega)), show (16 : Int32) = zI ↑(16 : Nat) from rfl, take_ok (h := sI h 403 300 (zI ↑(8 * f + al8 p))) P B A1 (by omega) this hF, ca_s, sI_sI, e1, e2]
  · have e1 : rgp N p = p := if_neg c
    have e2 : rwd N = wid N := by unfold rwd; rw [if_pos (by omega)]
    have := wid_8 (n := N) (by omega)
    rw [if_pos (show zI ↑(N + 1) ≤ 255 from (zn_le (b := 255) (by omega) (by omega)).mpr (by omega)), zn_pred (by omega), show N + 1 - 1 = N by omega, wid_ok (by omega) hF, ca_s, take_ok P B A (by omega) (by omega) hF, ca_s, e1, e2]
end Bt
