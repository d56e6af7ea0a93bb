/-! ROWS of nd_V: fields -/
set_option maxRecDepth 100000
theorem nd_clin : ∀ (ci : Nat) (q : vw_C), nd_cl[ci]? = some q → ∀ w ∈ u_ws q.1 q.2.1 q.2.2, w ∈ lw_all := by
  intro ci q hq
  match ci, hq with
  | 0, hq => cases hq; exact in_X1
  | 1, hq => cases hq; exact in_X2
  | 2, hq => cases hq; exact in_X3
  | 3, hq => cases hq; exact in_X4
  | 4, hq => cases hq; exact in_X5
  | 5, hq => cases hq; exact in_X6
  | 6, hq => cases hq; exact in_X9
  | 7, hq => cases hq; exact in_X11
  | 8, hq => cases hq; exact in_X12
  | 9, hq => cases hq; exact in_X13
  | 10, hq => cases hq; exact in_X14
  | 11, hq => cases hq; exact in_X15
  | 12, hq => cases hq; exact in_X16
  | 13, hq => cases hq; exact in_X17
  | k + 14, hq => simp [nd_cl] at hq
theorem nd_clnm : ∀ (ci : Nat) (q : vw_C), nd_cl[ci]? = some q → ∀ a, a < q.2.2 → ∀ b, b < q.2.2 → a ≠ b → (q.2.1 a).2.1 ≠ (q.2.1 b).2.1 := by
  intro ci q hq
  match ci, hq with
  | 0, hq => cases hq; exact nmX1
  | 1, hq => cases hq; exact nmX2
  | 2, hq => cases hq; exact nmX3
  | 3, hq => cases hq; exact nmX4
  | 4, hq => cases hq; exact nmX5
  | 5, hq => cases hq; exact nmX6
  | 6, hq => cases hq; exact nmX9
  | 7, hq => cases hq; exact nmX11
  | 8, hq => cases hq; exact nmX12
  | 9, hq => cases hq; exact nmX13
  | 10, hq => cases hq; exact nmX14
  | 11, hq => cases hq; exact nmX15
  | 12, hq => cases hq; exact nmX16
  | 13, hq => cases hq; exact nmX17
  | k + 14, hq => simp [nd_cl] at hq
theorem nd_clty : ∀ (ci : Nat) (q : vw_C), nd_cl[ci]? = some q → ∃ ty : Nat → FieldType, (∀ k, k < q.2.2 → parseFieldDescriptor (q.2.1 k).2.2.1 = some (ty k)) ∧ ∀ k, k < q.2.2 → defaultValue (ty k) = if (nd_fd ci k).2 then .null else .int 0 := by
  intro ci q hq
  match ci, hq with
  | 0, hq => cases hq; exact ⟨tyX1, tyX1_ok, by decide +kernel⟩
  | 1, hq => cases hq; exact ⟨tyX2, tyX2_ok, by decide +kernel⟩
  | 2, hq => cases hq; exact ⟨tyX3, tyX3_ok, by decide +kernel⟩
  | 3, hq => cases hq; exact ⟨tyX4, tyX4_ok, by decide +kernel⟩
  | 4, hq => cases hq; exact ⟨tyX5, tyX5_ok, by decide +kernel⟩
  | 5, hq => cases hq; exact ⟨tyX6, tyX6_ok, by decide +kernel⟩
  | 6, hq => cases hq; exact ⟨tyX9, tyX9_ok, by decide +kernel⟩
  | 7, hq => cases hq; exact ⟨tyX11, tyX11_ok, by decide +kernel⟩
  | 8, hq => cases hq; exact ⟨tyX12, tyX12_ok, by decide +kernel⟩
  | 9, hq => cases hq; exact ⟨tyX13, tyX13_ok, by decide +kernel⟩
  | 10, hq => cases hq; exact ⟨tyX14, tyX14_ok, by decide +kernel⟩
  | 11, hq => cases hq; exact ⟨tyX15, tyX15_ok, by decide +kernel⟩
  | 12, hq => cases hq; exact ⟨tyX16, tyX16_ok, by decide +kernel⟩
  | 13, hq => cases hq; exact ⟨tyX17, tyX17_ok, by decide +kernel⟩
  | k + 14, hq => simp [nd_cl] at hq
theorem nd_fdn : ∀ (ci : Nat) (q : vw_C), nd_cl[ci]? = some q → ∀ a, a < q.2.2 → ∀ b, b < q.2.2 → a ≠ b → (nd_fd ci a).1 ≠ (nd_fd ci b).1 := by
  intro ci q hq
  match ci, hq with
  | 0, hq => cases hq; decide +kernel
  | 1, hq => cases hq; decide +kernel
  | 2, hq => cases hq; decide +kernel
  | 3, hq => cases hq; decide +kernel
  | 4, hq => cases hq; decide +kernel
  | 5, hq => cases hq; decide +kernel
  | 6, hq => cases hq; decide +kernel
  | 7, hq => cases hq; decide +kernel
  | 8, hq => cases hq; decide +kernel
  | 9, hq => cases hq; decide +kernel
  | 10, hq => cases hq; decide +kernel
  | 11, hq => cases hq; decide +kernel
  | 12, hq => cases hq; decide +kernel
  | 13, hq => cases hq; decide +kernel
  | k + 14, hq => simp [nd_cl] at hq
theorem nd_lt14 {ci : Nat} {q : vw_C} (h : nd_cl[ci]? = some q) : ci < 14 := (List.getElem?_eq_some_iff.mp h).1
/-- the link of a field, of the class's own or a nest mate's -/
def nd_FL (own : String) (index : Nat) (q : vw_C) (k : Nat) : Prop :=
  ∃ ref, (Cond.fieldLink own index ref (q.2.1 k).2.1 (q.2.1 k).2.2.1 ∈ lw_all ∨ ∃ host, Cond.fieldLinkNest own index ref (q.2.1 k).2.1 (q.2.1 k).2.2.1 host ∈ lw_tbl) ∧
    (ref = (q.2.1 k).1 ∨ Cond.sameField ref (q.2.1 k).1 (q.2.1 k).2.1 (q.2.1 k).2.2.1 ∈ lw_all)
/-- what one cell's data are is unchanged -/
def nd_same (h h' : Hp) (n : Nat) : Prop := (∀ f, gI h' f n = gI h f n) ∧ (∀ f, gP h' f n = gP h f n) ∧ (∀ j, gA h' n j = gA h n j) ∧ (∀ j, gR h' n j = gR h n j) ∧ (nd_Kd n = 23 → ∀ j, gJ h' j = gJ h j)
theorem nd_at.kept {w : Wd} {ad : Nat → Nat} {h h' : Hp} {H H' : Heap} {n : Nat} (a : nd_at w ad h H n) (s : nd_same h h' n) (e : H'[ad n]? = H[ad n]?) : nd_at w ad h' H' n := by
  refine ⟨fun q hq => ((a.1 q hq).kept e).to (fun k _ => ?_), fun h20 => ?_⟩
  · simp only [nd_fv, s.1, s.2.1]
  · rw [e, a.2 h20]
    congr 1
    have : (fun j => nd_av ad h n j) = (fun j => nd_av ad h' n j) := by
      funext j
      simp only [nd_av, s.2.2.1, s.2.2.2.1]
      by_cases hk : nd_Kd n = 23
      · simp only [hk, if_true, s.2.2.2.2 hk]
      · simp only [if_neg hk]
    rw [this]
theorem nd_Rep.put {w : Wd} {ad : Nat → Nat} {h h' : Hp} {H H' : Heap} {a : Nat} (P : nd_Rep w ad h H) (ha : gL h a = true) (hl : ∀ n, gL h' n = gL h n) (hs : ∀ n, n ≠ a → nd_same h h' n) (hz : H'.size = H.size) (ho : ∀ q, q ≠ ad a → H'[q]? = H[q]?) (hat : nd_at w ad h' H' a) : nd_Rep w ad h' H' := by
  refine ⟨fun n hn => ?_, fun n n' hn hn' e => P.2.1 n n' (by rw [← hl]; exact hn) (by rw [← hl]; exact hn') e, fun h5 => P.2.2 (by rw [← hl]; exact h5)⟩
  have hn0 : gL h n = true := by rw [← hl]; exact hn
  obtain ⟨p1, p2, p3⟩ := P.1 n hn0
  refine ⟨p1, by rw [hz]; exact p2, ?_⟩
  by_cases e : n = a
  · rw [e]; exact hat
  · exact p3.kept (hs n e) (ho _ (fun q => e (P.2.1 n a hn0 ha q)))
theorem nd_Rep.putO {w : Wd} {ad : Nat → Nat} {h h' : Hp} {H H' : Heap} {a ci k : Nat} {q : vw_C} {cell : Cell} {val : Value} (P : nd_Rep w ad h H) (ha : gL h a = true) (hka : nd_Kd a = ci) (hq : nd_cl[ci]? = some q) (hk : k < q.2.2)
    (hap : ∀ x y, x < q.2.2 → y < q.2.2 → x ≠ y → w.2.1 ci x ≠ w.2.1 ci y) (hcell : H[ad a]? = some cell) (hc' : H'[ad a]? = some (cell.setSlot (w.2.1 ci k) val)) (hz : H'.size = H.size) (ho : ∀ q, q ≠ ad a → H'[q]? = H[q]?)
    (hl : ∀ n, gL h' n = gL h n) (hs : ∀ n, n ≠ a → nd_same h h' n) (hv : ∀ j, j < q.2.2 → nd_fv ad h' a (nd_fd ci j) = updV (fun k => nd_fv ad h a (nd_fd ci k)) k val j) : nd_Rep w ad h' H' := by
  subst hka
  refine P.put ha hl hs hz ho ⟨fun q' hq' => ?_, fun h20 => absurd (nd_lt14 hq) (by omega)⟩
  cases hq.symm.trans hq'
  obtain ⟨cell2, q1, q2, q3, q4⟩ := (P.1 a ha).2.2.1 q hq
  cases hcell.symm.trans q1
  exact t_OB.to (V := updV (fun k => nd_fv ad h a (nd_fd (nd_Kd a) k)) k val) ⟨_, hc', q2, q3, t_set q4 hap hk val⟩ (fun j hj => (hv j hj).symm)
section NdF
variable {l : Launch} {w : Wd} {r : Res} {h : Hp} {pc : Nat} {L L' : LL} {st st' : List AV} {y : MethodName} {cc : ByteArray} {nL fr lo : Nat} {ret : Option FieldType}
variable {a ci k index f : Nat} {q : vw_C}
theorem nd_getV {E : Ev} (X : nd_Cx E l w y cc nL ret fr lo) (d : decode cc pc = .ok (.getfield index, 3)) (hka : nd_Kd a = ci) (hq : nd_cl[ci]? = some q) (hk : k < q.2.2) (hlink : nd_FL y.cls index q k) (hal : gL h a = true) {ad : Nat → Nat} {H : Heap} {locs : List Loc} {ls : Array Slot} {rest : List Value} (hin : nd_In E r h ad H locs ls L)
    (hW : nd_W E r h H locs (fun m => F0 m (pc + 3) ls (nd_fv ad h a (nd_fd ci k) :: rest))) : nd_W E r h H locs (fun m => F0 m pc ls (.ref (ad a) :: rest)) := by
  obtain ⟨p, l1, e, R, s, m, args, below, meth, c, w1, ad0, h0⟩ := E
  obtain ⟨hx, hb, hml, hown, hts, hr, hlk, hnm, hxt, hKT, hKZ, hfr, hlo, hstt, hl1, hw1, hbase, htab⟩ := X
  subst hka
  obtain ⟨cell, q1, q2, q3, q4⟩ := (hin.1.1 a hal).2.2.1 q hq
  obtain ⟨hS, hfc, kC, hkC, hkind⟩ := hKT.1.1 _ q hq
  obtain ⟨cf, kf, fi, f', hi, hsl⟩ := hS k hk
  have hst := (u_facts hfc hkC (u_lays hts (nd_clin _ _ hq) hk) hi).1
  obtain ⟨ref, hl1, hl2⟩ := hlink
  have hi2 : s.fieldFound? ref (q.2.1 k).2.1 (q.2.1 k).2.2.1 = some (cf, kf, fi, f') := by
    rcases hl2 with rfl | hl2
    · exact hi
    · exact u_same (hts _ hl2) _ hi
  have hv : cell.slots[f'.slot]? = some (nd_fv ad h a (nd_fd (nd_Kd a) k)) := by rw [hsl, q4 k hk]
  rcases hl1 with hl1 | ⟨host, hl1⟩
  · exact W.getf hx hb hown (hts _ hl1) hi2 hst q1 (by rw [q3]; exact fun h => by cases h) hv rfl rfl d hW
  · exact va_Wgetf hx hb hown (va_Nw.use rfl (hKT.2.1 _ _ _ _ _ _ hl1)) hi2 hst q1 (by rw [q3]; exact fun h => by cases h) hv rfl rfl d hW
theorem nd_getI (d : decode cc pc = .ok (.getfield index, 3)) (hka : nd_Kd a = ci) (hq : nd_cl[ci]? = some q) (hk : k < q.2.2) (hlink : nd_FL y.cls index q k) (hf : nd_fd ci k = (f, false)) (kk : nd_V l w y cc nL ret fr lo r h (pc + 3) L (vi (gI h f a) :: st)) : nd_V l w y cc nL ret fr lo r h pc L (vr (some a) :: st) := by
  intro wf a1 a2
  have hal : gL h a = true := laS_h a2 a rfl
  have K := kk wf a1 (laS_i _ (laS_t a2))
  refine ⟨K.1, K.2.1, fun E X ad H locs ls hin => nd_getV X d hka hq hk hlink hal hin ?_⟩
  have := K.2.2 E X ad H locs ls hin
  rw [show nd_fv ad h a (nd_fd ci k) = tv ad (vi (gI h f a)) by rw [hf]; rfl]
  exact this
theorem nd_getP (d : decode cc pc = .ok (.getfield index, 3)) (hka : nd_Kd a = ci) (hq : nd_cl[ci]? = some q) (hk : k < q.2.2) (hlink : nd_FL y.cls index q k) (hf : nd_fd ci k = (f, true)) (kk : (∀ b, gP h f a = some b → nd_okF f (nd_Kd b) = true) → nd_V l w y cc nL ret fr lo r h (pc + 3) L (vr (gP h f a) :: st)) : nd_V l w y cc nL ret fr lo r h pc L (vr (some a) :: st) := by
  intro wf a1 a2
  have hal : gL h a = true := laS_h a2 a rfl
  have K := kk (fun b hb => (wf.1 a f b hal hb).2) wf a1 (laS_c (fun n e => (wf.1 a f n hal (Sum.inr.inj (Sum.inr.inj e))).1) (laS_t a2))
  refine ⟨K.1, K.2.1, fun E X ad H locs ls hin => nd_getV X d hka hq hk hlink hal hin ?_⟩
  have := K.2.2 E X ad H locs ls hin
  rw [show nd_fv ad h a (nd_fd ci k) = tv ad (vr (gP h f a)) by rw [hf]; rfl]
  exact this
/-- a field is written: what the machine needs, and the heap behind it -/
theorem nd_putV {E : Ev} {h' : Hp} {v : AV} {ty : FieldType} (X : nd_Cx E l w y cc nL ret fr lo) (d : decode cc pc = .ok (.putfield index, 3)) (hka : nd_Kd a = ci) (hq : nd_cl[ci]? = some q) (hk : k < q.2.2) (hlink : nd_FL y.cls index q k) (hal : gL h a = true)
    (hfin : (q.2.1 k).2.2.2 = false ∨ (y.name = "<init>" ∧ (q.2.1 k).1 = y.cls ∧ ∃ ref, Cond.fieldLink y.cls index ref (q.2.1 k).2.1 (q.2.1 k).2.2.1 ∈ lw_all ∧ ref = (q.2.1 k).1)) (hd : parseFieldDescriptor (q.2.1 k).2.2.1 = some ty) (hn : ∀ ad, narrow ty (tv ad v) = tv ad v) (hfit : ∀ ad, fits ty (tv ad v) = true)
    (hl' : ∀ n, gL h' n = gL h n) (hs : ∀ n, n ≠ a → nd_same h h' n) (hv : ∀ ad j, j < q.2.2 → nd_fv ad h' a (nd_fd ci j) = updV (fun k => nd_fv ad h a (nd_fd ci k)) k (tv ad v) j) (hC : gC h' = gC h) (hZ : gZ h' = gZ h)
    {ad : Nat → Nat} {H : Heap} {locs : List Loc} {ls : Array Slot} {rest : List Value} (hin : nd_In E r h ad H locs ls L)
    (hW : ∀ H' locs', nd_In E r h' ad H' locs' ls L → nd_W E r h' H' locs' (fun m => F0 m (pc + 3) ls rest)) : nd_W E r h H locs (fun m => F0 m pc ls (tv ad v :: .ref (ad a) :: rest)) := by
  obtain ⟨p, l1, e, R, s, m, args, below, meth, c, w1, ad0, h0⟩ := E
  obtain ⟨hx, hb, hml, hown, hts, hr, hlk, hnm, hxt, hKT, hKZ, hfr, hlo, hstt, hl1, hw1, hbase, htab⟩ := X
  obtain ⟨ty0, hty, -⟩ := nd_clty ci q hq
  have hap := va_apart (own := y.cls) hts (nd_clin _ _ hq) ty0 hty (nd_clnm _ _ hq) hKT.1 hq
  subst hka
  obtain ⟨cell, q1, q2, q3, q4⟩ := (hin.1.1 a hal).2.2.1 q hq
  obtain ⟨hS, hfc, kC, hkC, hkind⟩ := hKT.1.1 _ q hq
  obtain ⟨cf, kf, fi, f', hi, hsl⟩ := hS k hk
  have hst := (u_facts hfc hkC (u_lays hts (nd_clin _ _ hq) hk) hi).1
  have go : ∀ H' : Heap, H'[ad a]? = some (cell.setSlot f'.slot (tv ad v)) → H'.size = H.size → (∀ q, q ≠ ad a → H'[q]? = H[q]?) → W p l1 e R s m args below meth c H' (locs ++ [⟨ad a, f'.slot⟩]) (gC h - gC h0) (gZ h - gZ h0) (vx_MQ below (nd_Qc w1 ad0 h0 r) (nd_XC w1 ad0 h0 r) args s (gC r.2 - gC h0) (gZ r.2 - gZ h0) (fun q => w1.2.2.2.1 ≤ q)) (F0 m (pc + 3) ls rest) := by
    intro H' e1 e2 e3
    rw [hsl] at e1
    obtain ⟨i1, i2, i3, i4, i5, i6, i7, i8⟩ := hin
    have := hW H' (locs ++ [⟨ad a, f'.slot⟩]) ⟨i1.putO hal rfl hq hk hap q1 e1 e2 e3 hl' hs (hv ad), i2.put e2 e3 ((i1.1 a hal).1 (fun q9 => absurd (nd_lt14 hq) (by omega))), i3, fun n hn => ⟨by rw [hl']; exact (i4 n hn).1, (i4 n hn).2⟩, i5, i6, by rw [hC]; exact i7, by rw [hZ]; exact i8⟩
    rw [← hC, ← hZ]
    exact this
  rcases hfin with hfin | ⟨hin2, hdecl, ref, hl1, hl2⟩
  · have hlay := hts _ (nd_clin _ _ hq _ (u_in_lay hk))
    unfold u_lay at hlay
    rw [if_neg (by rw [hfin]; decide)] at hlay
    have h6 := u_store hfc hkC hkind hlay hi hd (hn ad) (hfit ad)
    obtain ⟨ref, hl1, hl2⟩ := hlink
    have hi2 : s.fieldFound? ref (q.2.1 k).2.1 (q.2.1 k).2.2.1 = some (cf, kf, fi, f') := by
      rcases hl2 with rfl | hl2
      · exact hi
      · exact u_same (hts _ hl2) _ hi
    rcases hl1 with hl1 | ⟨host, hl1⟩
    · exact W.putK hx hb (f := f') ⟨hown, hts _ hl1, ⟨_, _, _, hi2⟩, hst⟩ (by rw [q2]; exact h6) q1 q3 (by rw [hsl]; exact k2_hasslot (q4 k hk)) rfl rfl d go
    · exact va_WputK hx hb (f := f') hown (va_Nw.use rfl (hKT.2.1 _ _ _ _ _ _ hl1)) hi2 hst (by rw [q2]; exact h6) q1 q3 (by rw [hsl]; exact k2_hasslot (q4 k hk)) rfl rfl d go
  · have hlay := hts _ (nd_clin _ _ hq _ (u_in_lay hk))
    by_cases hff : (q.2.1 k).2.2.2 = true
    · unfold u_lay at hlay
      rw [if_pos hff] at hlay
      have hcf : m.cls = cf := by
        obtain ⟨_, _, c', _, _, _, -, -, hf', -, -, -, hown2, -⟩ := Cond.laysFinal_spec hlay
        have e1 : c' = cf := by have := hi.symm.trans hf'; simp at this; exact this.1.symm
        rw [hdecl] at hown2
        rw [← e1]; exact Option.some.inj (hown.symm.trans hown2)
      have h6 := u_fits hfc hkC hkind (Or.inr hlay) hi hd (hn ad) (hfit ad)
      exact W.putFinK hx hb hown (hts _ hl1) (by rw [hl2]; exact hi) hst hcf (hnm hin2) (by rw [q2]; exact h6) q1 q3 (by rw [hsl]; exact k2_hasslot (q4 k hk)) rfl rfl d go
    · unfold u_lay at hlay
      rw [if_neg hff] at hlay
      have h6 := u_store hfc hkC hkind hlay hi hd (hn ad) (hfit ad)
      exact W.putK hx hb (f := f') ⟨hown, hts _ hl1, ⟨_, _, _, by rw [hl2]; exact hi⟩, hst⟩ (by rw [q2]; exact h6) q1 q3 (by rw [hsl]; exact k2_hasslot (q4 k hk)) rfl rfl d go
theorem nd_same_sI (h : Hp) (f a : Nat) (v : Int32) (n : Nat) (e : n ≠ a) : nd_same h (sI h f a v) n := ⟨fun g => u2_n _ _ (fun q => e q.2), fun _ => rfl, fun _ => rfl, fun _ => rfl, fun _ _ => rfl⟩
theorem nd_same_sP (h : Hp) (f a : Nat) (v : Option Nat) (n : Nat) (e : n ≠ a) : nd_same h (sP h f a v) n := ⟨fun _ => rfl, fun g => u2_n _ _ (fun q => e q.2), fun _ => rfl, fun _ => rfl, fun _ _ => rfl⟩
theorem nd_wf_sI {h : Hp} {f a : Nat} {v : Int32} (w : nd_wf h) : nd_wf (sI h f a v) := w
theorem nd_wf_sP {h : Hp} {f a : Nat} {v : Option Nat} (w : nd_wf h) (hv : ∀ b, v = some b → gL h b = true ∧ nd_okF f (nd_Kd b) = true) : nd_wf (sP h f a v) := by
  refine ⟨fun n g b hn hg => ?_, w.2⟩
  by_cases e : g = f ∧ n = a
  · obtain ⟨rfl, rfl⟩ := e
    exact hv b ((u2_s h.2.2.1 g n v).symm.trans hg)
  · exact w.1 n g b hn ((u2_n h.2.2.1 v e).symm.trans hg)
theorem nd_fv_sI (ad : Nat → Nat) (h : Hp) {a ci k f : Nat} {q : vw_C} (v : Int32) (hq : nd_cl[ci]? = some q) (hk : k < q.2.2) (hf : nd_fd ci k = (f, false)) (j : Nat) (hj : j < q.2.2) : nd_fv ad (sI h f a v) a (nd_fd ci j) = updV (fun k => nd_fv ad h a (nd_fd ci k)) k (.int v) j := by
  by_cases e : j = k
  · subst e
    simp only [updV, if_true, nd_fv, hf]
    exact congrArg Value.int (u2_s h.2.1 f a v)
  · have hne := nd_fdn ci q hq j hj k hk e
    rw [hf] at hne
    simp only [updV, if_neg e, nd_fv]
    rw [show gI (sI h f a v) (nd_fd ci j).1 a = gI h (nd_fd ci j).1 a from u2_n _ _ (fun q => hne q.1)]
    rfl
theorem nd_fv_sP (ad : Nat → Nat) (h : Hp) {a ci k f : Nat} {q : vw_C} (v : Option Nat) (hq : nd_cl[ci]? = some q) (hk : k < q.2.2) (hf : nd_fd ci k = (f, true)) (j : Nat) (hj : j < q.2.2) : nd_fv ad (sP h f a v) a (nd_fd ci j) = updV (fun k => nd_fv ad h a (nd_fd ci k)) k (va_rf (v.map ad)) j := by
  by_cases e : j = k
  · subst e
    simp only [updV, if_true, nd_fv, hf]
    rw [show gP (sP h f a v) f a = v from u2_s h.2.2.1 f a v]
  · have hne := nd_fdn ci q hq j hj k hk e
    rw [hf] at hne
    simp only [updV, if_neg e, nd_fv]
    rw [show gP (sP h f a v) (nd_fd ci j).1 a = gP h (nd_fd ci j).1 a from u2_n _ _ (fun q => hne q.1)]
    rfl
theorem nd_putI {v : Int32} {ty : FieldType} (d : decode cc pc = .ok (.putfield index, 3)) (hka : nd_Kd a = ci) (hq : nd_cl[ci]? = some q) (hk : k < q.2.2) (hlink : nd_FL y.cls index q k) (hf : nd_fd ci k = (f, false))
    (hfin : (q.2.1 k).2.2.2 = false) (hd : parseFieldDescriptor (q.2.1 k).2.2.1 = some ty) (hn : narrow ty (.int v) = .int v) (hfit : fits ty (.int v) = true) (kk : nd_V l w y cc nL ret fr lo r (sI h f a v) (pc + 3) L st) : nd_V l w y cc nL ret fr lo r h pc L (vi v :: vr (some a) :: st) := by
  intro wf a1 a2
  have hal : gL h a = true := laS_h (laS_t a2) a rfl
  have K := kk (nd_wf_sI wf) a1 (laS_t (laS_t a2))
  refine ⟨K.1, K.2.1, fun E X ad H locs ls hin => nd_putV (h' := sI h f a v) (v := vi v) X d hka hq hk hlink hal (Or.inl hfin) hd (fun _ => hn) (fun _ => hfit) (fun _ => rfl) (fun n e => nd_same_sI h f a v n e) (fun ad j hj => nd_fv_sI ad h v hq hk hf j hj) rfl rfl hin (fun H' locs' hin' => K.2.2 E X ad H' locs' ls hin')⟩
theorem nd_putPg {v : Option Nat} {ty : FieldType} (d : decode cc pc = .ok (.putfield index, 3)) (hka : nd_Kd a = ci) (hq : nd_cl[ci]? = some q) (hk : k < q.2.2) (hlink : nd_FL y.cls index q k) (hf : nd_fd ci k = (f, true))
    (hfin : (q.2.1 k).2.2.2 = false ∨ (y.name = "<init>" ∧ (q.2.1 k).1 = y.cls ∧ ∃ ref, Cond.fieldLink y.cls index ref (q.2.1 k).2.1 (q.2.1 k).2.2.1 ∈ lw_all ∧ ref = (q.2.1 k).1)) (hd : parseFieldDescriptor (q.2.1 k).2.2.1 = some ty) (href : ty.isReference = true) (hv : ∀ b, v = some b → nd_okF f (nd_Kd b) = true) (kk : nd_V l w y cc nL ret fr lo r (sP h f a v) (pc + 3) L st) : nd_V l w y cc nL ret fr lo r h pc L (vr v :: vr (some a) :: st) := by
  intro wf a1 a2
  have hal : gL h a = true := laS_h (laS_t a2) a rfl
  have K := kk (nd_wf_sP wf (fun b e => ⟨laS_h a2 b (by rw [e]), hv b e⟩)) a1 (laS_t (laS_t a2))
  have hn : ∀ ad, narrow ty (tv ad (vr v)) = tv ad (vr v) ∧ fits ty (tv ad (vr v)) = true := by
    intro ad
    cases v <;> cases ty <;> simp_all [FieldType.isReference, narrow, fits, tv, va_rf]
  refine ⟨K.1, K.2.1, fun E X ad H locs ls hin => nd_putV (h' := sP h f a v) (v := vr v) X d hka hq hk hlink hal hfin hd (fun ad => (hn ad).1) (fun ad => (hn ad).2) (fun _ => rfl) (fun n e => nd_same_sP h f a v n e) (fun ad j hj => nd_fv_sP ad h v hq hk hf j hj) rfl rfl hin (fun H' locs' hin' => K.2.2 E X ad H' locs' ls hin')⟩
end NdF
