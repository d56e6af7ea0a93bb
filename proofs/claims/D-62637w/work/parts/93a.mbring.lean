/-! THE MODEL WRITES BITS (1) -/
set_option maxRecDepth 100000
/-- nothing but the made bytes and the place has changed -/
def PO (h h' : Hp) : Prop := gP h' = gP h ∧ gL h' = gL h ∧ gR h' = gR h ∧ (∀ g x, ¬ (g = 630 ∧ x = 3000) → gI h' g x = gI h g x) ∧ ∀ y i, y ≠ 3020 → gA h' y i = gA h y i
theorem PO.rf (h : Hp) : PO h h := ⟨rfl, rfl, rfl, fun _ _ _ => rfl, fun _ _ _ => rfl⟩
theorem PO.tr {h1 h2 h3 : Hp} (a : PO h1 h2) (b : PO h2 h3) : PO h1 h3 :=
  ⟨b.1.trans a.1, b.2.1.trans a.2.1, b.2.2.1.trans a.2.2.1, fun g x q => (b.2.2.2.1 g x q).trans (a.2.2.2.1 g x q), fun y i q => (b.2.2.2.2 y i q).trans (a.2.2.2.2 y i q)⟩
theorem PO.mp {h h' : Hp} (a : PO h h') (M : MP h) : MP h' := by
  unfold MP at M ⊢
  rw [a.1, a.2.1]; exact M
section Br
variable {h : Hp} {F d : Nat} {acc : List Bool}
theorem brg_31 {h' : Hp} {k nx : Nat → Int32 → Int32 → Hp → Option Hp} {v : Int32} {m : Nat} (B : WB h 3020 630 3000 acc) (hp : gP h 633 3000 = some 3020) (hl : acc.length < 32000) (hm : m < 32)
    (e1 : gP h' = gP h ∧ gL h' = gL h ∧ gR h' = gR h ∧ gI h' = gI h) (e2 : ∀ y i, ¬ (y = 3020 ∧ i = acc.length / 8) → gA h' y i = gA h y i) (e3 : gA h' 3020 (acc.length / 8) = zI ↑(if acc.length % 8 = 0 then 0 else byA acc (acc.length / 8))) :
    ∃ h2, fX6_bring_31 F d k 3000 v (zI m) h' = k 3000 v (zI (m - 1 : Int)) h2 ∧ WB h2 3020 630 3000 (acc ++ [(((v >>> Int32.ofNat m) &&& 1) == 1)]) ∧ PO h h2 := by
  unfold fX6_bring_31
  have d8 : zI ↑acc.length / 8 = zI ↑(acc.length / 8) := by
    rw [show (8 : Int32) = zI 8 from rfl, zI_div (by omega) (by omega) (by omega) (by omega)]; congr 1
  have r8 : zI ↑acc.length - zI ↑acc.length / 8 * 8 = zI ↑(acc.length % 8) := by
    rw [show (8 : Int32) = zI 8 from rfl, zI_rem (by omega) (by omega) (by omega) (by omega)]; congr 1
  have s7 : (7 : Int32) - zI ↑(acc.length % 8) = zI ↑(7 - acc.length % 8) := by
    rw [show (7 : Int32) = zI ↑(7 : Nat) from rfl, zn_sub (by omega)]
  rw [e1.1, hp, nn_s, nn_s, e1.2.2.2, B.1, d8, show nd_Ln 3020 = 4000 from rfl, zn_inb (show acc.length / 8 < 4000 by omega) (by omega), ck_t, bn_d, ck_t, zn_cl (by omega), r8, s7, zn_31 hm, zn_31 (show 7 - acc.length % 8 < 32 by omega), e3, bn_d, bn_d, bn_d]
  rw [and_1 (v >>> zI ↑m), bit_new, gI_sA, e1.2.2.2, B.1, zn_succ]
  rw [zI_nat]
  refine ⟨sI (sA h' 3020 (acc.length / 8) (zI ↑(byA (acc ++ [((v >>> zI ↑m) &&& 1) == 1]) (acc.length / 8)))) 630 3000 (zI ↑(acc.length + 1)), ?_, B.st (by rw [gI_sI, if_pos ⟨rfl, rfl⟩]) (fun i hi => ?_) ?_, ⟨e1.1, e1.2.1, e1.2.2.1, fun g x hg => ?_, fun y i hy => ?_⟩⟩
  · rw [show zI ↑m + (-1) = zI (m - 1 : Int) from by rw [show (-1 : Int32) = zI (-1) from rfl, zI_add]; rfl]
  · rw [gA_sI, gA_sA, if_neg (fun w => hi w.2)]; exact e2 _ _ (fun w => hi w.2)
  · rw [gA_sI, gA_sA, if_pos ⟨rfl, rfl⟩]
  · rw [gI_sI, if_neg hg, gI_sA, e1.2.2.2]
  · rw [gA_sI, gA_sA, if_neg (fun w => hy w.1)]; exact e2 _ _ (fun w => hy w.1)
theorem brg_lp {v : Int32} : ∀ (n nf : Nat) (h : Hp) (acc : List Bool), WB h 3020 630 3000 acc → gP h 633 3000 = some 3020 → acc.length + n ≤ 32000 → n ≤ 32 → n < nf →
    ∃ h', fX6_bring_4 F d nf 3000 v (zI (n - 1 : Int)) h = some h' ∧ WB h' 3020 630 3000 (acc ++ btL v n) ∧ PO h h' := by
  intro n
  induction n with
  | zero =>
    intro nf h acc B hp hl hn hf
    cases nf with
    | zero => omega
    | succ nf =>
      rw [fX6_bring_4, if_pos (by decide)]
      exact ⟨h, rfl, by rw [show btL v 0 = [] from rfl, List.append_nil]; exact B, PO.rf h⟩
  | succ n ih =>
    intro nf h acc B hp hl hn hf
    cases nf with
    | zero => omega
    | succ nf =>
      have e0 : ((n + 1 : Nat) - 1 : Int) = ↑n := by omega
      have r8 : zI ↑acc.length - zI ↑acc.length / 8 * 8 = zI ↑(acc.length % 8) := by
        rw [show (8 : Int32) = zI 8 from rfl, zI_rem (by omega) (by omega) (by omega) (by omega)]; congr 1
      have d8 : zI ↑acc.length / 8 = zI ↑(acc.length / 8) := by
        rw [show (8 : Int32) = zI 8 from rfl, zI_div (by omega) (by omega) (by omega) (by omega)]; congr 1
      rw [e0, fX6_bring_4, if_neg (zn_nn n (by omega)), bn_d, B.1, r8]
      have fin : ∀ h2, WB h2 3020 630 3000 (acc ++ [(((v >>> Int32.ofNat n) &&& 1) == 1)]) → PO h h2 → ∃ h', fX6_bring_4 F d nf 3000 v (zI (n - 1 : Int)) h2 = some h' ∧ WB h' 3020 630 3000 (acc ++ btL v (n + 1)) ∧ PO h h' := by
        intro h2 B2 O2
        obtain ⟨h3, e3, B3, O3⟩ := ih nf h2 _ B2 (by rw [O2.1]; exact hp) (by simp; omega) (by omega) (by omega)
        refine ⟨h3, e3, ?_, O2.tr O3⟩
        rw [List.append_assoc] at B3
        exact B3
      by_cases c : acc.length % 8 = 0
      · rw [c, if_pos (show zI ↑(0 : Nat) = 0 from rfl), hp, nn_s, d8, show nd_Ln 3020 = 4000 from rfl, zn_inb (show acc.length / 8 < 4000 by omega) (by omega), ck_t, bn_d, zn_cl (by omega)]
        obtain ⟨h2, e2, B2, O2⟩ := brg_31 (F := F) (d := d) (h' := sA h 3020 (acc.length / 8) 0) (k := fX6_bring_4 F d nf) (nx := fX6_bring_4 F d nf) (v := v) B hp (by omega) (show n < 32 by omega) ⟨rfl, rfl, rfl, rfl⟩ (fun y i hy => by rw [gA_sA, if_neg hy]) (by rw [gA_sA, if_pos ⟨rfl, rfl⟩, if_pos c]; rfl)
        rw [e2]
        exact fin h2 B2 O2
      · rw [if_neg (zn_ne 0 (v := 0) c rfl (by omega) (by omega))]
        obtain ⟨h2, e2, B2, O2⟩ := brg_31 (F := F) (d := d) (h' := h) (k := fX6_bring_4 F d nf) (nx := fX6_bring_4 F d nf) (v := v) B hp (by omega) (show n < 32 by omega) ⟨rfl, rfl, rfl, rfl⟩ (fun y i hy => rfl) (by rw [if_neg c]; exact B.2 _ (by omega))
        rw [e2]
        exact fin h2 B2 O2
theorem brg_ok {v : Int32} {n : Nat} (B : WB h 3020 630 3000 acc) (M : MP h) (hl : acc.length + n ≤ 32000) (hn : n ≤ 32) (hF : 1000 ≤ F) :
    ∃ h', fX6_bring F d 3000 v (zI n) h = some h' ∧ WB h' 3020 630 3000 (acc ++ btL v n) ∧ PO h h' := by
  have hp : gP h 633 3000 = some 3020 := by rw [M.2]; exact mp633
  unfold fX6_bring
  rw [bn_d, show zI ↑n - 1 = zI (n - 1 : Int) from zI_sub n 1]
  exact brg_lp n F h acc B hp hl hn (by omega)
theorem fill_ok (B : WB h 3020 630 3000 acc) (hl : acc.length ≤ 32000) :
    ∃ h', fX6_fill F d 3000 h = some h' ∧ WB h' 3020 630 3000 (fil acc) ∧ PO h h' := by
  have r8 : zI ↑acc.length - zI ↑acc.length / 8 * 8 = zI ↑(acc.length % 8) := by
    rw [show (8 : Int32) = zI 8 from rfl, zI_rem (by omega) (by omega) (by omega) (by omega)]; congr 1
  unfold fX6_fill
  rw [bn_d, B.1, r8]
  by_cases c : acc.length % 8 = 0
  · rw [c, if_pos (by decide)]
    exact ⟨h, rfl, by rw [fil_al c]; exact B, PO.rf h⟩
  · rw [if_neg (fun z => by rw [show (0 : Int32) = zI ↑(0 : Nat) from rfl, zn_le (by omega) (by omega)] at z; omega), bn_d, bn_d, r8]
    refine ⟨_, rfl, B.fil ?_ rfl, ⟨rfl, rfl, rfl, fun g x hg => by rw [gI_sI, if_neg hg], fun y i hy => rfl⟩⟩
    rw [gI_sI, if_pos ⟨rfl, rfl⟩, show (8 : Int32) = zI ↑(8 : Nat) from rfl, zn_sub (by omega), zn_add]
    congr 2
    unfold al8
    omega
theorem brof_ok {x lo hi : Int32} {N : Nat} (B : WB h 3020 630 3000 acc) (M : MP h) (hN : hi - lo = zI N) (hN2 : N ≤ 65535) (hl : acc.length + 23 ≤ 32000) (hF : 1000 ≤ F) :
    ∃ h', fX6_bringOf F d 3000 x lo hi h = some h' ∧ WB h' 3020 630 3000 (prn N (x - lo) acc) ∧ PO h h' := by
  have go : ∀ (h1 : Hp) (acc1 : List Bool), WB h1 3020 630 3000 acc1 → MP h1 → acc1.length + 16 ≤ 32000 → ∃ h', fX6_bringOf_17 F d 3000 x lo (zI ↑N) h1 = some h' ∧ WB h' 3020 630 3000 (acc1 ++ btL (x - lo) (rwd N)) ∧ PO h1 h' := by
    intro h1 acc1 B1 M1 hl1
    unfold fX6_bringOf_17 fX6_bringOf_52
    by_cases c1 : 255 ≤ N
    · rw [if_pos (show (255 : Int32) ≤ zI ↑N from (zn_le (a := 255) (by omega) (by omega)).mpr c1)]
      by_cases c2 : N = 255
      · have e2 : rwd N = 8 := by unfold rwd; rw [if_neg (by omega), if_pos c2]
        obtain ⟨h2, e3, B2, O2⟩ := brg_ok (F := F) (d := d) (v := x - lo) (n := 8) B1 M1 (by omega) (by omega) hF
        rw [if_pos (show zI ↑N = 255 by rw [c2]; rfl), show (8 : Int32) = zI ↑(8 : Nat) from rfl, e3, cv_s, e2]
        exact ⟨h2, rfl, B2, O2⟩
      · have e2 : rwd N = 16 := by unfold rwd; rw [if_neg (by omega), if_neg c2]
        obtain ⟨h2, e3, B2, O2⟩ := brg_ok (F := F) (d := d) (v := x - lo) (n := 16) B1 M1 (by omega) (by omega) hF
        rw [if_neg (show ¬ zI ↑N = 255 from zn_ne 255 c2 rfl (by omega) (by omega)), show (16 : Int32) = zI ↑(16 : Nat) from rfl, e3, cv_s, e2]
        exact ⟨h2, rfl, B2, O2⟩
    · have e2 : rwd N = wid N := by unfold rwd; rw [if_pos (by omega)]
      have := wid_8 (n := N) (by omega)
      obtain ⟨h2, e3, B2, O2⟩ := brg_ok (F := F) (d := d) (v := x - lo) (n := wid N) B1 M1 (by omega) (by omega) hF
      rw [if_neg (show ¬ (255 : Int32) ≤ zI ↑N from fun z => by have := (zn_le (a := 255) (by omega) (by omega)).mp z; omega), mwid_ok (by omega) hF, ca_s, e3, cv_s, e2]
      exact ⟨h2, rfl, B2, O2⟩
  unfold fX6_bringOf prn
  rw [bn_d, hN]
  by_cases c : 254 < N
  · obtain ⟨h1, e1, B1, O1⟩ := fill_ok (F := F) (d := d) B (by omega)
    have fl := fil_len acc
    have a8 := al8_le acc.length
    rw [if_neg (show ¬ zI ↑N ≤ 254 from fun z => by have := (zn_le (b := 254) (by omega) (by omega)).mp z; omega), e1, cv_s, if_pos c]
    obtain ⟨h2, e2, B2, O2⟩ := go h1 (fil acc) B1 (O1.mp M) (by omega)
    exact ⟨h2, e2, B2, O1.tr O2⟩
  · rw [if_pos (show zI ↑N ≤ 254 from (zn_le (b := 254) (by omega) (by omega)).mpr (by omega)), if_neg c]
    exact go h acc B M (by omega)
variable {τ : Tb} {N : Nat}
theorem PO.mt {h h' : Hp} (a : PO h h') (T : MT h τ N) : MT h' τ N := T.fr fun y i _ _ => a.2.2.2.2 y i (by omega)
theorem brc_ok {x : Int32} {q : Nat} (B : WB h 3020 630 3000 acc) (M : MP h) (T : MT h τ N) (hq : q < N) (ok : okS τ q) (hl : acc.length + 23 ≤ 32000) (hF : 1000 ≤ F) :
    ∃ h', fX6_bringCount F d 3000 x (zI ↑q) h = some h' ∧ WB h' 3020 630 3000 (pcn τ q x acc) ∧ PO h h' := by
  have hN := T.1
  obtain ⟨⟨-, -, -, -, a5⟩, -, a7, -, -⟩ := T.2 q hq
  unfold fX6_bringCount pcn
  cases w : tB τ q with
  | false =>
    rw [w] at a5
    obtain ⟨h1, e1, B1, O1⟩ := fill_ok (F := F) (d := d) B (by omega)
    have fl := fil_len acc
    have a8 := al8_le acc.length
    have M1 := O1.mp M
    obtain ⟨h2, e2, B2, O2⟩ := brg_ok (F := F) (d := d) (v := x) (n := 8) B1 M1 (by omega) (by omega) hF
    have a51 : gA h1 3011 q = 0 := (O1.2.2.2.2 _ _ (by omega)).trans a5
    rw [M.2, mp618, nn_s, ln3011, zn_inb (show q < 160 by omega) (by omega), ck_t, zn_cl (by omega), if_pos (show gA h 3011 q = 0 from a5), e1, cv_s, if_neg (show ¬ (false = true) by decide)]
    unfold fX6_bringCount_13
    rw [M1.2, mp618, nn_s, ln3011, zn_inb (show q < 160 by omega) (by omega), ck_t, zn_cl (by omega), if_pos a51, show (8 : Int32) = zI ↑(8 : Nat) from rfl, e2, cv_s]
    exact ⟨h2, rfl, B2, O1.tr O2⟩
  | true =>
    rw [w] at a5
    obtain ⟨b1, b2⟩ := a7 w
    obtain ⟨lo, hi, k1, k2, k3, k4⟩ := ok w
    have hspn : spn τ q = hi - lo := by unfold spn; rw [k1, k2, zn_sub (by omega), zn_cl (by omega)]
    have a51 : ¬ gA h 3011 q = 0 := by rw [a5]; decide
    obtain ⟨h1, e1, B1, O1⟩ := brof_ok (F := F) (d := d) (x := x) (lo := tLo τ q) (hi := tHi τ q) (N := hi - lo) B M (by rw [k1, k2]; exact zn_sub (by omega)) (by omega) hl hF
    rw [M.2, mp618, nn_s, ln3011, zn_inb (show q < 160 by omega) (by omega), ck_t, zn_cl (by omega), if_neg a51, if_pos rfl, hspn]
    unfold fX6_bringCount_13
    rw [M.2, mp618, nn_s, ln3011, zn_inb (show q < 160 by omega) (by omega), ck_t, zn_cl (by omega), if_neg a51, M.2, mp612, nn_s, ln3005, zn_inb (show q < 160 by omega) (by omega), ck_t, M.2, mp613, nn_s, ln3006, zn_inb (show q < 160 by omega) (by omega), ck_t, b1, b2, e1, cv_s]
    exact ⟨h1, rfl, B1, O1⟩
end Br
