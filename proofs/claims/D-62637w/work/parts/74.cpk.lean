/-! THE CLASS PACKS (1): bits of ints, numbers of a range -/
set_option maxRecDepth 100000
theorem bt_lsb (x : Int32) {k : Nat} (hk : k < 32) : (((x >>> Int32.ofNat k) &&& 1) == 1) = x.toBitVec.getLsbD k := by
  have e1 : (x >>> Int32.ofNat k) = ⟨⟨BitVec.sshiftRight x.toBitVec k⟩⟩ := by
    rw [zI_nat]
    show (⟨⟨BitVec.sshiftRight x.toBitVec ((zI ↑k).toBitVec.smod 32).toNat⟩⟩ : Int32) = _
    rw [smod_ok hk]
  have e2 := BitVec.and_one_eq_setWidth_ofBool_getLsbD (x := BitVec.sshiftRight x.toBitVec k)
  have e3 : (BitVec.sshiftRight x.toBitVec k).getLsbD 0 = x.toBitVec.getLsbD k := by
    rw [BitVec.getLsbD_sshiftRight]
    simp [hk]
  rw [e3] at e2
  rw [e1]
  cases hb : x.toBitVec.getLsbD k with
  | false =>
    rw [hb] at e2
    have : (⟨⟨BitVec.sshiftRight x.toBitVec k⟩⟩ : Int32) &&& 1 = 0 := Int32.toBitVec_inj.mp (e2.trans (by decide))
    rw [this]; rfl
  | true =>
    rw [hb] at e2
    have : (⟨⟨BitVec.sshiftRight x.toBitVec k⟩⟩ : Int32) &&& 1 = 1 := Int32.toBitVec_inj.mp (e2.trans (by decide))
    rw [this]; rfl
/-- bits as a list of places -/
theorem btL_map (x : Int32) : ∀ n, n ≤ 32 → btL x n = (List.range n).reverse.map fun k => x.toBitVec.getLsbD k := by
  intro n
  induction n with
  | zero => intro _; rfl
  | succ n ih =>
    intro hn
    rw [btL, bt_lsb x (by omega), ih (by omega), List.range_succ, List.reverse_append]
    rfl
theorem lsb_255 (x : Int32) {m k : Nat} (hk : k < 8) (hm : m + 8 ≤ 32) : ((x >>> Int32.ofNat m) &&& 255).toBitVec.getLsbD k = x.toBitVec.getLsbD (m + k) := by
  have e1 : (x >>> Int32.ofNat m) = ⟨⟨BitVec.sshiftRight x.toBitVec m⟩⟩ := by
    rw [zI_nat]
    show (⟨⟨BitVec.sshiftRight x.toBitVec ((zI ↑m).toBitVec.smod 32).toNat⟩⟩ : Int32) = _
    rw [smod_ok (by omega)]
  rw [e1]
  show (BitVec.sshiftRight x.toBitVec m &&& 255#32).getLsbD k = _
  rw [BitVec.getLsbD_and, BitVec.getLsbD_sshiftRight]
  have h2 : (255#32).getLsbD k = true := by
    have : k = 0 ∨ k = 1 ∨ k = 2 ∨ k = 3 ∨ k = 4 ∨ k = 5 ∨ k = 6 ∨ k = 7 := by omega
    rcases this with h | h | h | h | h | h | h | h <;> subst h <;> decide
  rw [h2, Bool.and_true]
  have h3 : ¬ 32 ≤ k := by omega
  have h4 : m + k < 32 := by omega
  simp [h3, h4]
theorem btL_add (x : Int32) : ∀ (n m : Nat), m + n ≤ 32 → btL x (m + n) = ((List.range n).reverse.map fun k => x.toBitVec.getLsbD (m + k)) ++ btL x m := by
  intro n
  induction n with
  | zero => intro m _; rfl
  | succ n ih =>
    intro m h
    rw [← Nat.add_assoc, btL, bt_lsb x (by omega), ih m (by omega), List.range_succ, List.reverse_append]
    rfl
theorem btB_ibs (x : Int32) : ∀ n, n ≤ 4 → btB (ibs x n) = btL x (8 * n) := by
  intro n
  induction n with
  | zero => intro _; rfl
  | succ n ih =>
    intro hn
    rw [show 8 * (n + 1) = 8 * n + 8 by omega, btL_add x 8 (8 * n) (by omega), ← ih (by omega)]
    show btL (zI ↑((x >>> Int32.ofNat (8 * n)) &&& 255).toNatClampNeg) 8 ++ btB (ibs x n) = _
    obtain ⟨m, m1, m2⟩ := and_255 (x >>> Int32.ofNat (8 * n))
    rw [zc_of m2 (by omega), btL_map _ 8 (by omega)]
    congr 1
    apply List.map_congr_left
    intro k hk
    have : k < 8 := by simpa using hk
    exact lsb_255 x this (by omega)
theorem btB_fold (l : List Nat) : ∀ acc : List Bool, l.foldl (fun acc x => acc ++ btL (Int32.ofNat x) 8) acc = acc ++ btB l := by
  induction l with
  | nil => intro acc; rw [btB_nil, List.append_nil]; rfl
  | cons x l ih =>
    intro acc
    rw [List.foldl_cons, ih, btB_c, List.append_assoc, zI_nat]
theorem fil_al {acc : List Bool} (h : acc.length % 8 = 0) : fil acc = acc := by
  unfold fil
  rw [show al8 acc.length - acc.length = 0 by unfold al8; omega]
  simp
theorem al8_le (p : Nat) : p ≤ al8 p ∧ al8 p ≤ p + 7 ∧ al8 p % 8 = 0 := by unfold al8; omega
section Pk
variable {F dd : Nat}
theorem pn_ok {h : Hp} {acc : List Bool} {x lo hi : Int32} {N : Nat} (B : WB h 311 501 310 acc) (hp : gP h 500 310 = some 311) (hN : hi - lo = zI N) (hN2 : N ≤ 65535) (hl : acc.length + 23 ≤ 20800) (hF : 1000 ≤ F) :
    ∃ h', fX5_putNumber F dd 310 x lo hi h = some h' ∧ WB h' 311 501 310 (prn N (x - lo) acc) ∧ WO h h' := by
  unfold fX5_putNumber prn
  rw [bn_d, hN, zn_succ]
  by_cases c : 254 < N
  · obtain ⟨h1, e1, B1, O1⟩ := ali_ok (F := F) (d := dd) B (by omega)
    have fl := fil_len acc
    have a8 := al8_le acc.length
    have hp1 : gP h1 500 310 = some 311 := by rw [O1.1]; exact hp
    rw [if_neg (show ¬ zI ↑(N + 1) ≤ 255 from fun z => by have := (zn_le (b := 255) (by omega) (by omega)).mp z; omega), e1, cv_s, if_pos c]
    unfold fX5_putNumber_38
    by_cases c1 : N = 255
    · have e2 : rwd N = 8 := by unfold rwd; rw [if_neg (by omega), if_pos c1]
      obtain ⟨h2, e3, B2, O2⟩ := put_ok (F := F) (d := dd) (v := x - lo) (n := 8) B1 hp1 (by omega) (by omega) hF
      rw [if_pos (show zI ↑(N + 1) = 256 by rw [c1]; rfl), show (8 : Int32) = zI ↑(8 : Nat) from rfl, e3, cv_s, e2]
      exact ⟨h2, rfl, B2, O1.tr O2⟩
    · have e2 : rwd N = 16 := by unfold rwd; rw [if_neg (by omega), if_neg c1]
      obtain ⟨h2, e3, B2, O2⟩ := put_ok (F := F) (d := dd) (v := x - lo) (n := 16) B1 hp1 (by omega) (by omega) hF
      rw [if_neg (show ¬ zI ↑(N + 1) = 256 from zn_ne 256 (by omega) rfl (by omega) (by omega)), show (16 : Int32) = zI ↑(16 : Nat) from rfl, e3, cv_s, e2]
      exact ⟨h2, rfl, B2, O1.tr O2⟩
  · have e2 : rwd N = wid N := by unfold rwd; rw [if_pos (by omega)]
    have := wid_8 (n := N) (by omega)
    obtain ⟨h2, e3, B2, O2⟩ := put_ok (F := F) (d := dd) (v := x - lo) (n := wid N) B hp (by omega) (by omega) hF
    rw [if_pos (show zI ↑(N + 1) ≤ 255 from (zn_le (b := 255) (by omega) (by omega)).mpr (by omega)), zn_pred (by omega), show N + 1 - 1 = N by omega, wid_ok (by omega) hF, ca_s, e3, cv_s, if_neg c, e2]
    exact ⟨h2, rfl, B2, O2⟩
theorem prn_len (N : Nat) (x : Int32) (acc : List Bool) : acc.length ≤ (prn N x acc).length ∧ (prn N x acc).length ≤ acc.length + 23 := by
  unfold prn
  have r := rwd_16 N
  have fl := fil_len acc
  have a8 := al8_le acc.length
  rw [List.length_append, btL_len]
  split <;> omega
variable {τ : Tb}
theorem pcn_len (q : Nat) (x : Int32) (acc : List Bool) : acc.length ≤ (pcn τ q x acc).length ∧ (pcn τ q x acc).length ≤ acc.length + 23 ∧ (tB τ q = false → (pcn τ q x acc).length % 8 = 0) := by
  unfold pcn
  have fl := fil_len acc
  have a8 := al8_le acc.length
  split
  · next c => have := prn_len (spn τ q) (x - tLo τ q) acc; exact ⟨this.1, this.2, fun w => by rw [c] at w; cases w⟩
  · rw [List.length_append, btL_len]; omega
theorem pc_ok {h : Hp} {acc : List Bool} {x : Int32} {sz q : Nat} (c : CSz h τ sz q) (ok : okS τ q) (B : WB h 311 501 310 acc) (hp : gP h 500 310 = some 311) (hl : acc.length + 23 ≤ 20800) (hF : 1000 ≤ F) :
    ∃ h', fX14_pack F dd sz x 310 h = some h' ∧ WB h' 311 501 310 (pcn τ q x acc) ∧ WO h h' := by
  unfold fX14_pack fX14_pack_17 fX14_pack_34 pcn
  rw [c.2.1]
  cases w : tB τ q with
  | false =>
    rw [if_pos (show b2i false = 0 from rfl), if_pos (show b2i false = 0 from rfl), if_neg (show ¬ (false = true) by decide)]
    obtain ⟨h1, e1, B1, O1⟩ := pn_ok (F := F) (dd := dd) (x := x) (lo := 0) (hi := 255) (N := 255) B hp (by decide) (by omega) hl hF
    rw [e1, cv_s]
    refine ⟨h1, rfl, ?_, O1⟩
    have : prn 255 (x - 0) acc = fil acc ++ btL x 8 := by
      unfold prn
      rw [if_pos (by omega), Int32.sub_zero]; rfl
    rw [this] at B1
    exact B1
  | true =>
    obtain ⟨lo, hi, k1, k2, k3, k4⟩ := ok w
    have hspn : spn τ q = hi - lo := by unfold spn; rw [k1, k2, zn_sub (by omega), zn_cl (by omega)]
    rw [if_neg (show ¬ b2i true = 0 by decide), if_neg (show ¬ b2i true = 0 by decide), if_pos rfl, (c.2.2 w).1, (c.2.2 w).2, k1, k2, hspn]
    obtain ⟨h1, e1, B1, O1⟩ := pn_ok (F := F) (dd := dd) (x := x) (lo := zI lo) (hi := zI hi) (N := hi - lo) B hp (zn_sub (by omega)) (by omega) hl hF
    rw [e1, cv_s]
    exact ⟨h1, rfl, B1, O1⟩
/-- the length of what is packed -/
theorem pks_len {d : Nat} {P : Nat × Vt d → List Bool → List Bool} : ∀ (l : List (Nat × Vt d)) (acc : List Bool), (∀ q ∈ l, ∀ acc, acc.length ≤ (P q acc).length ∧ (P q acc).length ≤ acc.length + 60 * sz d q.2 + 8 * oz d q.2) →
    acc.length ≤ (pks P l acc).length ∧ (pks P l acc).length ≤ acc.length + 60 * szs l + 8 * ozs l := by
  intro l
  induction l with
  | nil => intro acc _; exact ⟨Nat.le_refl _, by rw [szs_nil, ozs_nil]; exact Nat.le_refl _⟩
  | cons q l ih =>
    intro acc h
    have h1 := h q (List.mem_cons_self) acc
    have h2 := ih (P q acc) (fun x hx => h x (List.mem_cons_of_mem _ hx))
    rw [pks, szs_cons, ozs_cons]
    omega
theorem pmk_len {d : Nat} (q : Nat) (l : List (Nat × Vt d)) : ∀ r k, (pmk τ q l r k).length ≤ r := by
  intro r
  induction r with
  | zero => intro k; exact Nat.le_refl _
  | succ r ih =>
    intro k
    rw [pmk]
    split
    · have := ih (k + 1); omega
    · have := ih (k + 1); rw [List.length_cons]; omega
theorem pk_len : ∀ (d j t : Nat) (v : Vt d) (acc : List Bool), VOk τ d v t → WFt τ j t → j ≤ 200 → acc.length ≤ (pk τ d v t acc).length ∧ (pk τ d v t acc).length ≤ acc.length + 60 * sz d v + 8 * oz d v := by
  intro d
  induction d with
  | zero => intro j t v acc h; exact h.elim
  | succ d ih =>
    intro j t v acc h w hj
    obtain ⟨jb, hjb, wb, kb⟩ := w.base hj
    obtain ⟨hv, h⟩ := h
    rw [hv] at h
    unfold pk
    rw [sz_s, oz_s]
    generalize bas τ 200 t = q at *
    rcases h with ⟨k, h1, h2, h3⟩ | ⟨k, h1, h2, h3⟩ | ⟨k, h1, h2, h3, h4⟩ | ⟨k, h1, h2, h3⟩ | ⟨k, h1, h2, h3, h4⟩ | ⟨k, h1, h2, h3, h4, h5⟩ | ⟨k, h1, kk, w9, h2, h3, h4, h5⟩
    · rw [if_neg (by omega), if_neg (by omega), if_neg (by omega), if_neg (by omega), if_neg (by omega), if_pos k, List.length_append, btL_len]; omega
    · rw [if_neg (by omega), if_neg (by omega), if_neg (by omega), if_neg (by omega), if_neg (by omega), if_neg (by omega)]
      split
      · have := prn_len (spn τ q) (vN v - tLo τ q) acc; omega
      · have := byO_le (vN v)
        have fl := fil_len acc
        have a8 := al8_le acc.length
        rw [List.length_append, List.length_append, btL_len, btL_len]; omega
    · rw [if_neg (by omega), if_neg (by omega), if_neg (by omega), if_pos k, btB_fold, List.length_append, btB_len]
      have p1 := pcn_len (τ := τ) q (vN v) acc
      have fl := fil_len (pcn τ q (vN v) acc)
      have a8 := al8_le (pcn τ q (vN v) acc).length
      split <;> omega
    · rw [if_neg (by omega), if_neg (by omega), if_neg (by omega), if_neg (by omega), if_pos k]; omega
    · rw [if_neg (by omega), if_pos k]
      have w6 := wb.seq k
      have p1 := pmk_len (τ := τ) q (vK v) (tN τ q) 0
      have p2 := pks_len (P := fun p acc => if lft τ q p then acc else pk τ d p.2 (tC τ q p.1) acc) (vK v) (acc ++ pmk τ q (vK v) (tN τ q) 0) (fun p hp acc => by
        split
        · omega
        · exact ih jb _ _ _ (h4 p hp) ((w6.2 p.1 (h3.mem p hp).2).2.2) (by omega))
      rw [List.length_append] at p2
      omega
    · rw [if_neg (by omega), if_neg (by omega), if_pos k]
      have p1 := pcn_len (τ := τ) q (vN v) acc
      have p2 := pks_len (P := fun p acc => pk τ d p.2 (tC τ q 0) acc) (vK v) (pcn τ q (vN v) acc) (fun p hp acc => ih jb _ _ _ (h5 p hp) (wb.lst k).2 (by omega))
      omega
    · rw [if_pos k]
      have p1 := prn_len (tN τ q - 1) (Int32.ofNat (rnk τ q (vN v).toNatClampNeg)) acc
      have w9' := wb.cho k
      have p2 := pks_len (P := fun p acc => pk τ d p.2 (tC τ q (vN v).toNatClampNeg) acc) (vK v) (prn (tN τ q - 1) (Int32.ofNat (rnk τ q (vN v).toNatClampNeg)) acc) (fun p hp acc => by
        rw [h4] at hp
        have : p = (0, w9) := by simpa using hp
        rw [this, h3, zn_cl (by omega)]
        exact ih jb _ _ _ h5 (w9'.2.2 kk h2) (by omega))
      omega
end Pk
