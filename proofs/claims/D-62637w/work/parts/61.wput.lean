/-! WRITING (2): the class's writer -/
set_option maxRecDepth 100000
theorem and_1 (y : Int32) : y &&& 1 = zI ↑((y &&& 1 == 1) : Bool).toNat := by
  have h : y &&& 1 = 0 ∨ y &&& 1 = 1 := by
    have e := BitVec.and_one_eq_setWidth_ofBool_getLsbD (x := y.toBitVec)
    cases hb : y.toBitVec.getLsbD 0 with
    | false => left; apply Int32.toBitVec_inj.mp; rw [hb] at e; exact e.trans (by decide)
    | true => right; apply Int32.toBitVec_inj.mp; rw [hb] at e; exact e.trans (by decide)
  rcases h with h | h <;> rw [h] <;> rfl
theorem and_255 (y : Int32) : ∃ n : Nat, n < 256 ∧ y &&& 255 = zI n := by
  refine ⟨(y.toBitVec &&& 255#32).toNat, ?_, ?_⟩
  · rw [BitVec.toNat_and]
    exact Nat.lt_of_le_of_lt Nat.and_le_right (by decide)
  · apply Int32.toBitVec_inj.mp
    rw [← zI_nat]
    show y.toBitVec &&& 255#32 = BitVec.ofNat 32 _
    simp
theorem btL_len (x : Int32) : ∀ n, (btL x n).length = n := by
  intro n
  induction n with
  | zero => rfl
  | succ n ih => show (btL x n).length + 1 = n + 1; rw [ih]
theorem WB.st {h h2 : Hp} {ar fd ob : Nat} {acc : List Bool} {x : Bool} (B : WB h ar fd ob acc) (e1 : gI h2 fd ob = zI ↑(acc.length + 1)) (e2 : ∀ i, i ≠ acc.length / 8 → gA h2 ar i = gA h ar i) (e3 : gA h2 ar (acc.length / 8) = zI ↑(byA (acc ++ [x]) (acc.length / 8))) : WB h2 ar fd ob (acc ++ [x]) := by
  refine ⟨by rw [e1]; simp, fun i hi => ?_⟩
  by_cases c : i = acc.length / 8
  · rw [c]; exact e3
  · rw [e2 i c, byA_oth c]
    apply B.2
    simp at hi
    omega
/-- nothing but the writer's bytes and its place has changed -/
def WO (h h' : Hp) : Prop := gP h' = gP h ∧ gL h' = gL h ∧ gR h' = gR h ∧ (∀ g x, ¬ (g = 501 ∧ x = 310) → gI h' g x = gI h g x) ∧ ∀ y i, y ≠ 311 → gA h' y i = gA h y i
theorem WO.rf (h : Hp) : WO h h := ⟨rfl, rfl, rfl, fun _ _ _ => rfl, fun _ _ _ => rfl⟩
theorem WO.tr {h1 h2 h3 : Hp} (a : WO h1 h2) (b : WO h2 h3) : WO h1 h3 :=
  ⟨b.1.trans a.1, b.2.1.trans a.2.1, b.2.2.1.trans a.2.2.1, fun g x q => (b.2.2.2.1 g x q).trans (a.2.2.2.1 g x q), fun y i q => (b.2.2.2.2 y i q).trans (a.2.2.2.2 y i q)⟩
section Wr
variable {h : Hp} {F d : Nat} {acc : List Bool}
theorem put_31 {h' : Hp} {k nx : Nat → Int32 → Int32 → Hp → Option Hp} {v : Int32} {m : Nat} (B : WB h 311 501 310 acc) (hp : gP h 500 310 = some 311) (hl : acc.length < 20800) (hm : m < 32)
    (e1 : gP h' = gP h ∧ gL h' = gL h ∧ gR h' = gR h ∧ gI h' = gI h) (e2 : ∀ y i, ¬ (y = 311 ∧ i = acc.length / 8) → gA h' y i = gA h y i) (e3 : gA h' 311 (acc.length / 8) = zI ↑(if acc.length % 8 = 0 then 0 else byA acc (acc.length / 8))) :
    ∃ h2, fX5_put_31 F d k 310 v (zI m) h' = k 310 v (zI (m - 1 : Int)) h2 ∧ WB h2 311 501 310 (acc ++ [(((v >>> Int32.ofNat m) &&& 1) == 1)]) ∧ WO h h2 := by
  unfold fX5_put_31
  have d8 : zI ↑acc.length / 8 = zI ↑(acc.length / 8) := by
    rw [show (8 : Int32) = zI 8 from rfl, zI_div (by omega) (by omega) (by omega) (by omega)]; congr 1
  have r8 : zI ↑acc.length - zI ↑acc.length / 8 * 8 = zI ↑(acc.length % 8) := by
    rw [show (8 : Int32) = zI 8 from rfl, zI_rem (by omega) (by omega) (by omega) (by omega)]; congr 1
  have s7 : (7 : Int32) - zI ↑(acc.length % 8) = zI ↑(7 - acc.length % 8) := by
    rw [show (7 : Int32) = zI ↑(7 : Nat) from rfl, zn_sub (by omega)]
  rw [e1.1, hp, nn_s, bn_d, e1.2.2.2, B.1, d8, show nd_Ln 311 = 2600 from rfl, zn_inb (show acc.length / 8 < 2600 by omega) (by omega), ck_t, bn_d, ck_t, zn_cl (by omega), r8, s7, zn_31 hm, zn_31 (show 7 - acc.length % 8 < 32 by omega), e3, bn_d, bn_d, bn_d]
  rw [and_1 (v >>> zI ↑m), bit_new, gI_sA, e1.2.2.2, B.1, zn_succ]
  rw [zI_nat]
  refine ⟨sI (sA h' 311 (acc.length / 8) (zI ↑(byA (acc ++ [((v >>> zI ↑m) &&& 1) == 1]) (acc.length / 8)))) 501 310 (zI ↑(acc.length + 1)), ?_, B.st (by rw [gI_sI, if_pos ⟨rfl, rfl⟩]) (fun i hi => ?_) ?_, ⟨e1.1, e1.2.1, e1.2.2.1, fun g x hg => ?_, fun y i hy => ?_⟩⟩
  · rw [show zI ↑m + (-1) = zI (m - 1 : Int) from by rw [show (-1 : Int32) = zI (-1) from rfl, zI_add]; rfl]
  · rw [gA_sI, gA_sA, if_neg (fun w => hi w.2)]; exact e2 _ _ (fun w => hi w.2)
  · rw [gA_sI, gA_sA, if_pos ⟨rfl, rfl⟩]
  · rw [gI_sI, if_neg hg, gI_sA, e1.2.2.2]
  · rw [gA_sI, gA_sA, if_neg (fun w => hy w.1)]; exact e2 _ _ (fun w => hy w.1)
theorem put_lp {v : Int32} : ∀ (n nf : Nat) (h : Hp) (acc : List Bool), WB h 311 501 310 acc → gP h 500 310 = some 311 → acc.length + n ≤ 20800 → n ≤ 32 → n < nf →
    ∃ h', fX5_put_4 F d nf 310 v (zI (n - 1 : Int)) h = some h' ∧ WB h' 311 501 310 (acc ++ btL v n) ∧ WO h h' := by
  intro n
  induction n with
  | zero =>
    intro nf h acc B hp hl hn hf
    cases nf with
    | zero => omega
    | succ nf =>
      rw [fX5_put_4, if_pos (by decide)]
      exact ⟨h, rfl, by rw [show btL v 0 = [] from rfl, List.append_nil]; exact B, WO.rf h⟩
  | succ n ih =>
    intro nf h acc B hp hl hn hf
    cases nf with
    | zero => omega
    | succ nf =>
      have e0 : ((n + 1 : Nat) - 1 : Int) = ↑n := by omega
      have r8 : zI ↑acc.length - zI ↑acc.length / 8 * 8 = zI ↑(acc.length % 8) := by
        rw [show (8 : Int32) = zI 8 from rfl, zI_rem (by omega) (by omega) (by omega) (by omega)]; congr 1
      have d8 : zI ↑acc.length / 8 = zI ↑(acc.length / 8) := by
        rw [show (8 : Int32) = zI 8 from rfl, zI_div (by omega) (by omega) (by omega) (by omega)]; congr 1
      rw [e0, fX5_put_4, if_neg (zn_nn n (by omega)), bn_d, B.1, r8]
      have fin : ∀ h2, WB h2 311 501 310 (acc ++ [(((v >>> Int32.ofNat n) &&& 1) == 1)]) → WO h h2 → ∃ h', fX5_put_4 F d nf 310 v (zI (n - 1 : Int)) h2 = some h' ∧ WB h' 311 501 310 (acc ++ btL v (n + 1)) ∧ WO h h' := by
        intro h2 B2 O2
        obtain ⟨h3, e3, B3, O3⟩ := ih nf h2 _ B2 (by rw [O2.1]; exact hp) (by simp; omega) (by omega) (by omega)
        refine ⟨h3, e3, ?_, O2.tr O3⟩
        rw [List.append_assoc] at B3
        exact B3
      by_cases c : acc.length % 8 = 0
      · rw [c, if_pos (show zI ↑(0 : Nat) = 0 from rfl), hp, nn_s, d8, show nd_Ln 311 = 2600 from rfl, zn_inb (show acc.length / 8 < 2600 by omega) (by omega), ck_t, bn_d, zn_cl (by omega)]
        obtain ⟨h2, e2, B2, O2⟩ := put_31 (F := F) (d := d) (h' := sA h 311 (acc.length / 8) 0) (k := fX5_put_4 F d nf) (nx := fX5_put_4 F d nf) (v := v) B hp (by omega) (show n < 32 by omega) ⟨rfl, rfl, rfl, rfl⟩ (fun y i hy => by rw [gA_sA, if_neg hy]) (by rw [gA_sA, if_pos ⟨rfl, rfl⟩, if_pos c]; rfl)
        rw [e2]
        exact fin h2 B2 O2
      · rw [if_neg (zn_ne 0 (v := 0) c rfl (by omega) (by omega))]
        obtain ⟨h2, e2, B2, O2⟩ := put_31 (F := F) (d := d) (h' := h) (k := fX5_put_4 F d nf) (nx := fX5_put_4 F d nf) (v := v) B hp (by omega) (show n < 32 by omega) ⟨rfl, rfl, rfl, rfl⟩ (fun y i hy => rfl) (by rw [if_neg c]; exact B.2 _ (by omega))
        rw [e2]
        exact fin h2 B2 O2
theorem put_ok {v : Int32} {n : Nat} (B : WB h 311 501 310 acc) (hp : gP h 500 310 = some 311) (hl : acc.length + n ≤ 20800) (hn : n ≤ 32) (hF : 1000 ≤ F) :
    ∃ h', fX5_put F d 310 v (zI n) h = some h' ∧ WB h' 311 501 310 (acc ++ btL v n) ∧ WO h h' := by
  unfold fX5_put
  rw [bn_d, show zI ↑n - 1 = zI (n - 1 : Int) from zI_sub n 1]
  exact put_lp n F h acc B hp hl hn (by omega)
theorem add8_ok {v : Int32} (B : WB h 311 501 310 acc) (hp : gP h 500 310 = some 311) (hl : acc.length + 8 ≤ 20800) (hF : 1000 ≤ F) :
    ∃ h', fX5_add F d 310 v h = some h' ∧ WB h' 311 501 310 (acc ++ btL v 8) ∧ WO h h' := by
  obtain ⟨h', e1, B1, O1⟩ := put_ok (F := F) (d := d) (v := v) (n := 8) B hp hl (by omega) hF
  unfold fX5_add
  rw [show (8 : Int32) = zI ↑(8 : Nat) from rfl, e1, cv_s]
  exact ⟨h', rfl, B1, O1⟩
theorem fil_len (acc : List Bool) : (fil acc).length = al8 acc.length := by
  unfold fil al8
  simp
  omega
theorem byA_fil (acc : List Bool) (i : Nat) : byA (fil acc) i = byA acc i := by
  have g : ∀ k, (fil acc).getD k false = acc.getD k false := by
    intro k
    unfold fil
    rw [List.getD_eq_getElem?_getD, List.getD_eq_getElem?_getD, List.getElem?_append]
    split
    · rfl
    · next c =>
      rw [List.getElem?_eq_none (l := acc) (by omega), List.getElem?_replicate]
      split <;> rfl
  unfold byA
  simp only [g]
theorem WB.fil {ar fd ob : Nat} {h h2 : Hp} (B : WB h ar fd ob acc) (e1 : gI h2 fd ob = zI ↑(al8 acc.length)) (e2 : gA h2 ar = gA h ar) : WB h2 ar fd ob (fil acc) := by
  refine ⟨by rw [e1, fil_len], fun i hi => ?_⟩
  rw [e2, byA_fil]
  apply B.2
  rw [fil_len] at hi
  unfold al8 at hi
  omega
theorem siz_ok (hB : gI h 501 310 = zI ↑acc.length) (hl : acc.length ≤ 20800) : fX5_size F d 310 h = some (zI ↑((acc.length + 7) / 8), h) := by
  unfold fX5_size
  rw [hB, show (7 : Int32) = zI ↑(7 : Nat) from rfl, zn_add, show (8 : Int32) = zI 8 from rfl, zI_div (by omega) (by omega) (by omega) (by omega)]
  rfl
theorem ali_ok (B : WB h 311 501 310 acc) (hl : acc.length ≤ 20800) :
    ∃ h', fX5_align F d 310 h = some h' ∧ WB h' 311 501 310 (fil acc) ∧ WO h h' := by
  unfold fX5_align
  rw [siz_ok B.1 hl, ca_s, bn_d]
  refine ⟨_, rfl, B.fil ?_ rfl, ⟨rfl, rfl, rfl, fun g x hg => by rw [gI_sI, if_neg hg], fun y i hy => rfl⟩⟩
  rw [gI_sI, if_pos ⟨rfl, rfl⟩, show (8 : Int32) = zI 8 from rfl, zI_mul]
  congr 1
  unfold al8
  omega
end Wr
