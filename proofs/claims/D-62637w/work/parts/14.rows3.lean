/-! ROWS of nd_V: arrays, new cells, returns, throw (printed by tools/rows3.py) -/
set_option maxRecDepth 100000
def inb (i : Int32) (n : Nat) : Bool := decide (¬ (i < 0 ∨ n ≤ i.toNatClampNeg))
theorem inb_in {i : Int32} {n : Nat} (h : inb i n = true) : vp_in i n := of_decide_eq_true (p := ¬ (i < 0 ∨ n ≤ i.toNatClampNeg)) h
def isB (x : Int32) : Bool := x == 0 || x == 1
def isCh (x : Int32) : Bool := 0 ≤ x && x ≤ 65535
theorem isB_n {x : Int32} (h : isB x = true) : narrow .boolean (.int x) = .int x ∧ fits .boolean (.int x) = true := by
  refine ⟨?_, h⟩
  simp only [isB, Bool.or_eq_true, beq_iff_eq] at h
  rcases h with rfl | rfl <;> decide +kernel
theorem isCh_n {x : Int32} (h : isCh x = true) : narrow .char (.int x) = .int x := by
  simp only [isCh, Bool.and_eq_true, decide_eq_true_eq] at h
  have h0 : ¬ x < 0 := by rw [Int32.not_lt]; exact h.1
  obtain ⟨j, hj, rfl⟩ := nI_of h0
  have : j < 65536 := by
    have := h.2
    rw [Int32.le_iff_toInt_le, nI_toInt hj] at this
    have h2 : (65535 : Int32).toInt = 65535 := by decide +kernel
    omega
  exact (pk_charN this).1
theorem nd_tyk {w : Wd} {U : State} (K : nd_KT w U) (t : Nat) {ty : FieldType} (ht : ∀ dA, (nd_tys dA)[t]? = some (dA t, ty)) : ArrOfT U (w.2.2.1 t) ty ∧ va_RA U (w.2.2.1 t) ty := K.1.2 t (w.2.2.1 t, ty) (ht _)
theorem nd_same_sA (h : Hp) (a j : Nat) (v : Int32) (n : Nat) (e : n ≠ a) : nd_same h (sA h a j v) n := ⟨fun _ => rfl, fun _ => rfl, fun g => u2_n _ _ (fun q => e q.1), fun _ => rfl, fun _ _ => rfl⟩
theorem nd_same_sR (h : Hp) (a j : Nat) (v : Option Nat) (n : Nat) (e : n ≠ a) : nd_same h (sR h a j v) n := ⟨fun _ => rfl, fun _ => rfl, fun _ => rfl, fun g => u2_n _ _ (fun q => e q.1), fun _ _ => rfl⟩
theorem nd_wf_sA {h : Hp} {a j : Nat} {v : Int32} (w : nd_wf h) : nd_wf (sA h a j v) := w
theorem nd_wf_sJ {h : Hp} {j : Nat} {v : Int64} (w : nd_wf h) : nd_wf (sJ h j v) := w
theorem nd_wf_sR {h : Hp} {a j : Nat} {v : Option Nat} (w : nd_wf h) (hv : ∀ b, v = some b → gL h b = true ∧ nd_okR (nd_Kd a) (nd_Kd b) = true) : nd_wf (sR h a j v) := by
  refine ⟨w.1, fun n g b hn hg => ?_⟩
  by_cases e : n = a ∧ g = j
  · obtain ⟨rfl, rfl⟩ := e
    exact hv b ((u2_s h.2.2.2.2.1 n g v).symm.trans hg)
  · exact w.2 n g b hn ((u2_n h.2.2.2.2.1 v e).symm.trans hg)
theorem nd_Rep.putA {w : Wd} {ad : Nat → Nat} {h h' : Hp} {H H' : Heap} {a t j : Nat} {val : Value} (P : nd_Rep w ad h H) (ha : gL h a = true) (hka : nd_Kd a = 20 + t)
    (hc' : H'[ad a]? = some ((arrV (w.2.2.1 t) (nd_Ln a) (fun j => nd_av ad h a j)).setSlot j val)) (hz : H'.size = H.size) (ho : ∀ q, q ≠ ad a → H'[q]? = H[q]?)
    (hl : ∀ n, gL h' n = gL h n) (hs : ∀ n, n ≠ a → nd_same h h' n) (hv : ∀ i, nd_av ad h' a i = updV (fun j => nd_av ad h a j) j val i) : nd_Rep w ad h' H' := by
  refine P.put ha hl hs hz ho ⟨fun q hq => absurd (nd_lt14 hq) (by omega), fun h20 => ?_⟩
  rw [hc', arrV_store, show nd_Kd a - 20 = t by omega]
  congr 2
  funext i
  exact (hv i).symm
theorem nd_Rep.arr {w : Wd} {ad : Nat → Nat} {h : Hp} {H : Heap} {a t : Nat} (P : nd_Rep w ad h H) (ha : gL h a = true) (hka : nd_Kd a = 20 + t) : H[ad a]? = some (arrV (w.2.2.1 t) (nd_Ln a) (fun j => nd_av ad h a j)) := by
  have := (P.1 a ha).2.2.2 (by omega)
  rw [show nd_Kd a - 20 = t by omega] at this
  exact this
theorem nd_lkm {α : Type} : ∀ (l : List (Nat × α)) (n : Nat) (v : α), l.lookup n = some v → (n, v) ∈ l
  | [], _, _, h => by cases h
  | (k, u) :: l, n, v, h => by
    by_cases e : n = k
    · subst e
      simp [List.lookup] at h
      rw [h]; exact List.mem_cons_self
    · have e2 : (n == k) = false := by simp [e]
      simp only [List.lookup, e2] at h
      exact List.mem_cons_of_mem _ (nd_lkm l n v h)
theorem nd_K23 (n : Nat) (h : nd_Kd n = 23) : n = 320 := by
  have key : ∀ q ∈ nd_Kl, q.2.1 = 23 → q.1 = 320 := by decide +kernel
  unfold nd_Kd at h
  split at h
  · unfold nd_K0 at h
    split at h
    · next q hq => exact key _ (nd_lkm _ _ _ hq) h
    · split at h <;> omega
  · split at h <;> omega
section NdA
variable {l : Launch} {w : Wd} {r : Res} {h : Hp} {pc : Nat} {L L' : LL} {st st' : List AV} {y : MethodName} {cc : ByteArray} {nL fr lo : Nat} {ret : Option FieldType}
variable {a index : Nat} {i : Int32}
theorem nd_iald (d : decode cc pc = .ok (.iaload, 1)) (hka : nd_Kd a = 20) (hi : inb i (nd_Ln a) = true) (kk : nd_V l w y cc nL ret fr lo r h (pc + 1) L (vi (gA h a i.toNatClampNeg) :: st)) : nd_V l w y cc nL ret fr lo r h pc L (vi i :: vr (some a) :: st) := by
  intro wf a1 a2
  have hal : gL h a = true := laS_h (laS_t a2) a rfl
  have K := kk wf a1 (laS_i _ (laS_t (laS_t a2)))
  refine ⟨K.1, K.2.1, fun E X ad H locs ls hin => ?_⟩
  have hi := inb_in hi
  have hlt : i.toNatClampNeg < nd_Ln a := Nat.not_le.mp fun q => hi (Or.inr q)
  have hk := K.2.2 E X ad H locs ls hin
  obtain ⟨p, l1, e, R, s, m, args, below, meth, c, w1, ad0, h0⟩ := E
  obtain ⟨hx, hb, hml, hown, hts, hr, hlk, hnm, hxt, hKT, hKZ, hfr, hlo, hstt, hl1, hw1, hbase, htab⟩ := X
  exact W.iald (v := .int (gA h a i.toNatClampNeg)) hx hb (hin.1.arr (t := 0) hal hka) ((nd_tyk hKT 0 (fun _ => rfl)).1 _ _) (fun q => by cases q) (by show ¬ (i < 0 ∨ (arrV _ _ _).slots.size ≤ _); rw [arrV_size]; exact hi) (by show (arrV _ _ _).slots[_]? = _; rw [arrV_read _ _ hlt]; simp [nd_av, hka]) rfl rfl d hk
theorem nd_cald (d : decode cc pc = .ok (.caload, 1)) (hka : nd_Kd a = 21) (hi : inb i (nd_Ln a) = true) (kk : nd_V l w y cc nL ret fr lo r h (pc + 1) L (vi (gA h a i.toNatClampNeg) :: st)) : nd_V l w y cc nL ret fr lo r h pc L (vi i :: vr (some a) :: st) := by
  intro wf a1 a2
  have hal : gL h a = true := laS_h (laS_t a2) a rfl
  have K := kk wf a1 (laS_i _ (laS_t (laS_t a2)))
  refine ⟨K.1, K.2.1, fun E X ad H locs ls hin => ?_⟩
  have hi := inb_in hi
  have hlt : i.toNatClampNeg < nd_Ln a := Nat.not_le.mp fun q => hi (Or.inr q)
  have hk := K.2.2 E X ad H locs ls hin
  obtain ⟨p, l1, e, R, s, m, args, below, meth, c, w1, ad0, h0⟩ := E
  obtain ⟨hx, hb, hml, hown, hts, hr, hlk, hnm, hxt, hKT, hKZ, hfr, hlo, hstt, hl1, hw1, hbase, htab⟩ := X
  exact W.cald (v := .int (gA h a i.toNatClampNeg)) hx hb (hin.1.arr (t := 1) hal hka) ((nd_tyk hKT 1 (fun _ => rfl)).1 _ _) (fun q => by cases q) (by show ¬ (i < 0 ∨ (arrV _ _ _).slots.size ≤ _); rw [arrV_size]; exact hi) (by show (arrV _ _ _).slots[_]? = _; rw [arrV_read _ _ hlt]; simp [nd_av, hka]) rfl rfl d hk
theorem nd_zald (d : decode cc pc = .ok (.baload, 1)) (hka : nd_Kd a = 22) (hi : inb i (nd_Ln a) = true) (kk : nd_V l w y cc nL ret fr lo r h (pc + 1) L (vi (gA h a i.toNatClampNeg) :: st)) : nd_V l w y cc nL ret fr lo r h pc L (vi i :: vr (some a) :: st) := by
  intro wf a1 a2
  have hal : gL h a = true := laS_h (laS_t a2) a rfl
  have K := kk wf a1 (laS_i _ (laS_t (laS_t a2)))
  refine ⟨K.1, K.2.1, fun E X ad H locs ls hin => ?_⟩
  have hi := inb_in hi
  have hlt : i.toNatClampNeg < nd_Ln a := Nat.not_le.mp fun q => hi (Or.inr q)
  have hk := K.2.2 E X ad H locs ls hin
  obtain ⟨p, l1, e, R, s, m, args, below, meth, c, w1, ad0, h0⟩ := E
  obtain ⟨hx, hb, hml, hown, hts, hr, hlk, hnm, hxt, hKT, hKZ, hfr, hlo, hstt, hl1, hw1, hbase, htab⟩ := X
  exact W.zald (v := .int (gA h a i.toNatClampNeg)) hx hb (hin.1.arr (t := 2) hal hka) ((nd_tyk hKT 2 (fun _ => rfl)).1 _ _) (fun q => by cases q) (by show ¬ (i < 0 ∨ (arrV _ _ _).slots.size ≤ _); rw [arrV_size]; exact hi) (by show (arrV _ _ _).slots[_]? = _; rw [arrV_read _ _ hlt]; simp [nd_av, hka]) rfl rfl d hk
theorem nd_lald (d : decode cc pc = .ok (.laload, 1)) (hka : nd_Kd a = 23) (hi : inb i (nd_Ln a) = true) (kk : nd_V l w y cc nL ret fr lo r h (pc + 1) L (vl (gJ h i.toNatClampNeg) :: st)) : nd_V l w y cc nL ret fr lo r h pc L (vi i :: vr (some a) :: st) := by
  intro wf a1 a2
  have hal : gL h a = true := laS_h (laS_t a2) a rfl
  have K := kk wf a1 (laS_l _ (laS_t (laS_t a2)))
  refine ⟨K.1, K.2.1, fun E X ad H locs ls hin => ?_⟩
  have hi := inb_in hi
  have hlt : i.toNatClampNeg < nd_Ln a := Nat.not_le.mp fun q => hi (Or.inr q)
  have hk := K.2.2 E X ad H locs ls hin
  obtain ⟨p, l1, e, R, s, m, args, below, meth, c, w1, ad0, h0⟩ := E
  obtain ⟨hx, hb, hml, hown, hts, hr, hlk, hnm, hxt, hKT, hKZ, hfr, hlo, hstt, hl1, hw1, hbase, htab⟩ := X
  exact W.lald (v := .long (gJ h i.toNatClampNeg)) hx hb (hin.1.arr (t := 3) hal hka) ((nd_tyk hKT 3 (fun _ => rfl)).1 _ _) (fun q => by cases q) (by show ¬ (i < 0 ∨ (arrV _ _ _).slots.size ≤ _); rw [arrV_size]; exact hi) (by show (arrV _ _ _).slots[_]? = _; rw [arrV_read _ _ hlt]; simp [nd_av, hka]) rfl rfl d hk
theorem nd_aald {t : Nat} {C : String} (d : decode cc pc = .ok (.aaload, 1)) (hka : nd_Kd a = 20 + t) (h4 : 4 ≤ t) (hC : ∀ dA, (nd_tys dA)[t]? = some (dA t, .object C)) (hi : inb i (nd_Ln a) = true) (kk : (∀ b, gR h a i.toNatClampNeg = some b → nd_okR (20 + t) (nd_Kd b) = true) → nd_V l w y cc nL ret fr lo r h (pc + 1) L (vr (gR h a i.toNatClampNeg) :: st)) : nd_V l w y cc nL ret fr lo r h pc L (vi i :: vr (some a) :: st) := by
  intro wf a1 a2
  have hal : gL h a = true := laS_h (laS_t a2) a rfl
  have K := kk (fun b e => by rw [← hka]; exact (wf.2 a _ b hal e).2) wf a1 (laS_c (fun n e => (wf.2 a _ n hal (Sum.inr.inj (Sum.inr.inj e))).1) (laS_t (laS_t a2)))
  refine ⟨K.1, K.2.1, fun E X ad H locs ls hin => ?_⟩
  have hi := inb_in hi
  have hlt : i.toNatClampNeg < nd_Ln a := Nat.not_le.mp fun q => hi (Or.inr q)
  have hk := K.2.2 E X ad H locs ls hin
  obtain ⟨p, l1, e, R, s, m, args, below, meth, c, w1, ad0, h0⟩ := E
  obtain ⟨hx, hb, hml, hown, hts, hr, hlk, hnm, hxt, hKT, hKZ, hfr, hlo, hstt, hl1, hw1, hbase, htab⟩ := X
  exact W.aald (v := va_rf ((gR h a i.toNatClampNeg).map ad)) (ty := .object C) hx hb (hin.1.arr (t := t) hal hka) ((nd_tyk hKT t hC).1 _ _) rfl (fun q => by cases q) (by show ¬ (i < 0 ∨ (arrV _ _ _).slots.size ≤ _); rw [arrV_size]; exact hi) (by show (arrV _ _ _).slots[_]? = _; rw [arrV_read _ _ hlt]; simp [nd_av, hka, show ¬ 20 + t = 23 by omega, show 24 ≤ 20 + t by omega]) rfl rfl d hk
theorem nd_alen {t : Nat} {ty : FieldType} {v : Int32} (d : decode cc pc = .ok (.arraylength, 1)) (hka : nd_Kd a = 20 + t) (hC : ∀ dA, (nd_tys dA)[t]? = some (dA t, ty)) (hv : Int32.ofNat (nd_Ln a) = v) (kk : nd_V l w y cc nL ret fr lo r h (pc + 1) L (vi v :: st)) : nd_V l w y cc nL ret fr lo r h pc L (vr (some a) :: st) := by
  intro wf a1 a2
  have hal : gL h a = true := laS_h a2 a rfl
  have K := kk wf a1 (laS_i _ (laS_t a2))
  refine ⟨K.1, K.2.1, fun E X ad H locs ls hin => ?_⟩
  have hk := K.2.2 E X ad H locs ls hin
  obtain ⟨p, l1, e, R, s, m, args, below, meth, c, w1, ad0, h0⟩ := E
  obtain ⟨hx, hb, hml, hown, hts, hr, hlk, hnm, hxt, hKT, hKZ, hfr, hlo, hstt, hl1, hw1, hbase, htab⟩ := X
  exact W.alen (n := v) (ty := ty) hx hb (hin.1.arr (t := t) hal hka) ((nd_tyk hKT t hC).1 _ _) (by rw [arrV_size]; exact hv) rfl rfl d hk
theorem nd_stA {E : Ev} {h' : Hp} {t j : Nat} {val : Value} {ad : Nat → Nat} {H H' : Heap} {locs : List Loc} {ls : Array Slot} (hin : nd_In E r h ad H locs ls L) (hal : gL h a = true) (hka : nd_Kd a = 20 + t)
    (hc' : H'[ad a]? = some ((arrV (E.2.2.2.2.2.2.2.2.2.2.1.2.2.1 t) (nd_Ln a) (fun j => nd_av ad h a j)).setSlot j val)) (hz : H'.size = H.size) (ho : ∀ q, q ≠ ad a → H'[q]? = H[q]?)
    (hl : ∀ n, gL h' n = gL h n) (hs : ∀ n, n ≠ a → nd_same h h' n) (hv : ∀ i, nd_av ad h' a i = updV (fun j => nd_av ad h a j) j val i) (hC : gC h' = gC h) (hZ : gZ h' = gZ h) : nd_In E r h' ad H' (locs ++ [⟨ad a, j⟩]) ls L := by
  obtain ⟨p, l1, e, R, s, m, args, below, meth, c, w1, ad0, h0⟩ := E
  obtain ⟨i1, i2, i3, i4, i5, i6, i7, i8⟩ := hin
  exact ⟨i1.putA hal hka hc' hz ho hl hs hv, i2.put hz ho ((i1.1 a hal).1 (by omega)), i3, fun n hn => ⟨by rw [hl]; exact (i4 n hn).1, (i4 n hn).2⟩, i5, i6, by rw [hC]; exact i7, by rw [hZ]; exact i8⟩
theorem nd_av_sA (ad : Nat → Nat) (h : Hp) {a j t : Nat} (v : Int32) (hka : nd_Kd a = 20 + t) (ht : t < 3) (i : Nat) : nd_av ad (sA h a j v) a i = updV (fun j => nd_av ad h a j) j (.int v) i := by
  have e1 : ¬ nd_Kd a = 23 := by omega
  have e2 : ¬ 24 ≤ nd_Kd a := by omega
  by_cases e : i = j
  · subst e
    simp only [updV, if_true, nd_av, if_neg e1, if_neg e2]
    exact congrArg Value.int (u2_s h.2.2.2.1 a i v)
  · simp only [updV, if_neg e, nd_av, if_neg e1, if_neg e2]
    exact congrArg Value.int (u2_n h.2.2.2.1 v (fun q => e q.2))
theorem nd_av_sR (ad : Nat → Nat) (h : Hp) {a j t : Nat} (v : Option Nat) (hka : nd_Kd a = 20 + t) (ht : 4 ≤ t) (i : Nat) : nd_av ad (sR h a j v) a i = updV (fun j => nd_av ad h a j) j (va_rf (v.map ad)) i := by
  have e1 : ¬ nd_Kd a = 23 := by omega
  have e2 : 24 ≤ nd_Kd a := by omega
  by_cases e : i = j
  · subst e
    simp only [updV, if_true, nd_av, if_neg e1, if_pos e2]
    rw [show gR (sR h a i v) a i = v from u2_s h.2.2.2.2.1 a i v]
  · simp only [updV, if_neg e, nd_av, if_neg e1, if_pos e2]
    rw [show gR (sR h a j v) a i = gR h a i from u2_n h.2.2.2.2.1 v (fun q => e q.2)]
theorem nd_iast {v : Int32} (d : decode cc pc = .ok (.iastore, 1)) (hka : nd_Kd a = 20) (hi : inb i (nd_Ln a) = true) (kk : nd_V l w y cc nL ret fr lo r (sA h a i.toNatClampNeg v) (pc + 1) L st) : nd_V l w y cc nL ret fr lo r h pc L (vi v :: vi i :: vr (some a) :: st) := by
  intro wf a1 a2
  have hal : gL h a = true := laS_h (laS_t (laS_t a2)) a rfl
  have K := kk (nd_wf_sA wf) a1 (laS_t (laS_t (laS_t a2)))
  refine ⟨K.1, K.2.1, fun E X ad H locs ls hin => ?_⟩
  have hi := inb_in hi
  have hk := fun H' locs' q => K.2.2 E X ad H' locs' ls q
  obtain ⟨p, l1, e, R, s, m, args, below, meth, c, w1, ad0, h0⟩ := E
  obtain ⟨hx, hb, hml, hown, hts, hr, hlk, hnm, hxt, hKT, hKZ, hfr, hlo, hstt, hl1, hw1, hbase, htab⟩ := X
  exact W.iast hx hb (hin.1.arr (t := 0) hal hka) ((nd_tyk hKT 0 (fun _ => rfl)).1 _ _) (fun q => by cases q) (by show ¬ (i < 0 ∨ (arrV _ _ _).slots.size ≤ _); rw [arrV_size]; exact hi) rfl rfl d
    (fun H' e1 e2 e3 => by exact hk H' _ (nd_stA hin hal (t := 0) hka e1 e2 e3 (fun _ => rfl) (fun n q => nd_same_sA h a _ v n q) (fun x => nd_av_sA ad h v (t := 0) hka (by decide) x) rfl rfl))
theorem nd_cast {v : Int32} (d : decode cc pc = .ok (.castore, 1)) (hka : nd_Kd a = 21) (hi : inb i (nd_Ln a) = true) (hv : isCh v = true) (kk : nd_V l w y cc nL ret fr lo r (sA h a i.toNatClampNeg v) (pc + 1) L st) : nd_V l w y cc nL ret fr lo r h pc L (vi v :: vi i :: vr (some a) :: st) := by
  intro wf a1 a2
  have hal : gL h a = true := laS_h (laS_t (laS_t a2)) a rfl
  have K := kk (nd_wf_sA wf) a1 (laS_t (laS_t (laS_t a2)))
  refine ⟨K.1, K.2.1, fun E X ad H locs ls hin => ?_⟩
  have hi := inb_in hi
  have hk := fun H' locs' q => K.2.2 E X ad H' locs' ls q
  obtain ⟨p, l1, e, R, s, m, args, below, meth, c, w1, ad0, h0⟩ := E
  obtain ⟨hx, hb, hml, hown, hts, hr, hlk, hnm, hxt, hKT, hKZ, hfr, hlo, hstt, hl1, hw1, hbase, htab⟩ := X
  exact W.cast hx hb (hin.1.arr (t := 1) hal hka) ((nd_tyk hKT 1 (fun _ => rfl)).1 _ _) (fun q => by cases q) (by show ¬ (i < 0 ∨ (arrV _ _ _).slots.size ≤ _); rw [arrV_size]; exact hi) rfl rfl d
    (fun H' e1 e2 e3 => by rw [isCh_n hv] at e1; exact hk H' _ (nd_stA hin hal (t := 1) hka e1 e2 e3 (fun _ => rfl) (fun n q => nd_same_sA h a _ v n q) (fun x => nd_av_sA ad h v (t := 1) hka (by decide) x) rfl rfl))
theorem nd_zast {v : Int32} (d : decode cc pc = .ok (.bastore, 1)) (hka : nd_Kd a = 22) (hi : inb i (nd_Ln a) = true) (hv : isB v = true) (kk : nd_V l w y cc nL ret fr lo r (sA h a i.toNatClampNeg v) (pc + 1) L st) : nd_V l w y cc nL ret fr lo r h pc L (vi v :: vi i :: vr (some a) :: st) := by
  intro wf a1 a2
  have hal : gL h a = true := laS_h (laS_t (laS_t a2)) a rfl
  have K := kk (nd_wf_sA wf) a1 (laS_t (laS_t (laS_t a2)))
  refine ⟨K.1, K.2.1, fun E X ad H locs ls hin => ?_⟩
  have hi := inb_in hi
  have hk := fun H' locs' q => K.2.2 E X ad H' locs' ls q
  obtain ⟨p, l1, e, R, s, m, args, below, meth, c, w1, ad0, h0⟩ := E
  obtain ⟨hx, hb, hml, hown, hts, hr, hlk, hnm, hxt, hKT, hKZ, hfr, hlo, hstt, hl1, hw1, hbase, htab⟩ := X
  exact W.zast hx hb (hin.1.arr (t := 2) hal hka) ((nd_tyk hKT 2 (fun _ => rfl)).1 _ _) (fun q => by cases q) (by show ¬ (i < 0 ∨ (arrV _ _ _).slots.size ≤ _); rw [arrV_size]; exact hi) rfl rfl d
    (fun H' e1 e2 e3 => by rw [(isB_n hv).1] at e1; exact hk H' _ (nd_stA hin hal (t := 2) hka e1 e2 e3 (fun _ => rfl) (fun n q => nd_same_sA h a _ v n q) (fun x => nd_av_sA ad h v (t := 2) hka (by decide) x) rfl rfl))
theorem nd_last {v : Int64} (d : decode cc pc = .ok (.lastore, 1)) (hka : nd_Kd a = 23) (ha : a = 320) (hi : inb i (nd_Ln a) = true) (kk : nd_V l w y cc nL ret fr lo r (sJ h i.toNatClampNeg v) (pc + 1) L st) : nd_V l w y cc nL ret fr lo r h pc L (vl v :: vi i :: vr (some a) :: st) := by
  intro wf a1 a2
  have hal : gL h a = true := laS_h (laS_t (laS_t a2)) a rfl
  have K := kk (nd_wf_sJ wf) a1 (laS_t (laS_t (laS_t a2)))
  refine ⟨K.1, K.2.1, fun E X ad H locs ls hin => ?_⟩
  have hi := inb_in hi
  have hk := fun H' locs' q => K.2.2 E X ad H' locs' ls q
  obtain ⟨p, l1, e, R, s, m, args, below, meth, c, w1, ad0, h0⟩ := E
  obtain ⟨hx, hb, hml, hown, hts, hr, hlk, hnm, hxt, hKT, hKZ, hfr, hlo, hstt, hl1, hw1, hbase, htab⟩ := X
  exact W.last hx hb (hin.1.arr (t := 3) hal hka) ((nd_tyk hKT 3 (fun _ => rfl)).1 _ _) (fun q => by cases q) (by show ¬ (i < 0 ∨ (arrV _ _ _).slots.size ≤ _); rw [arrV_size]; exact hi) rfl rfl d
    (fun H' e1 e2 e3 => hk H' _ (nd_stA hin hal (t := 3) hka e1 e2 e3 (fun _ => rfl) (fun n q => ⟨fun _ => rfl, fun _ => rfl, fun _ => rfl, fun _ => rfl, fun q2 => absurd (nd_K23 n q2) (by rw [← ha]; exact q)⟩) (fun x => by
      by_cases e : x = i.toNatClampNeg
      · subst e
        simp [updV, nd_av, hka, gJ, sJ]
      · simp [updV, nd_av, hka, gJ, sJ, e]) rfl rfl))
theorem nd_asgn {w : Wd} {s : State} (K : nd_KT w s) {t ci : Nat} {C : String} {q : vw_C} (h4 : 4 ≤ t) (hC : ∀ dA, (nd_tys dA)[t]? = some (dA t, .object C)) (hq : nd_cl[ci]? = some q) (hc : C = q.1 ∨ Cond.castable q.1 C ∈ lw_tbl) :
    ∃ (kA kv kcomp : Class) (comp : ClassId), s.vm.classes[w.2.2.1 t]? = some kA ∧ kA.kind = .array comp (.object C) ∧ s.vm.classes[comp]? = some kcomp ∧ s.vm.classes[w.1 ci]? = some kv ∧ s.vm.assignable (w.1 ci) comp = true := by
  obtain ⟨kA, comp, k1, k2, k3, -⟩ := (nd_tyk K t hC).2
  have hcls := (K.1.1 ci q hq).2
  obtain ⟨kC, hkC, hkd⟩ := hcls.2
  obtain ⟨kcomp, hkcomp, -⟩ := Vm.findClass_spec k3
  refine ⟨kA, kC, kcomp, comp, k1, k2, hkcomp, hkC, ?_⟩
  rcases hc with rfl | hc
  · have : comp = w.1 ci := Option.some.inj (k3.symm.trans hcls.1)
    rw [this]
    exact va_assign hcls
  · obtain ⟨c0, t0, f1, f2, f3⟩ := Cond.castable_spec (va_Nw.use (A := #[]) rfl (K.2.2.2.1 _ _ hc))
    have e1 : c0 = w.1 ci := Option.some.inj (f1.symm.trans hcls.1)
    have e2 : t0 = comp := Option.some.inj (f2.symm.trans k3)
    rw [← e1, ← e2]
    exact f3
theorem nd_aast {v : Option Nat} {t : Nat} {C : String} (d : decode cc pc = .ok (.aastore, 1)) (hka : nd_Kd a = 20 + t) (h4 : 4 ≤ t) (hC : ∀ dA, (nd_tys dA)[t]? = some (dA t, .object C)) (hi : inb i (nd_Ln a) = true)
    (hv : ∀ b, v = some b → nd_okR (20 + t) (nd_Kd b) = true ∧ ∃ q : vw_C, nd_cl[nd_Kd b]? = some q ∧ (C = q.1 ∨ Cond.castable q.1 C ∈ lw_tbl)) (kk : nd_V l w y cc nL ret fr lo r (sR h a i.toNatClampNeg v) (pc + 1) L st) : nd_V l w y cc nL ret fr lo r h pc L (vr v :: vi i :: vr (some a) :: st) := by
  intro wf a1 a2
  have hal : gL h a = true := laS_h (laS_t (laS_t a2)) a rfl
  have K := kk (nd_wf_sR wf (fun b e => ⟨laS_h a2 b (by rw [e]), by rw [hka]; exact (hv b e).1⟩)) a1 (laS_t (laS_t (laS_t a2)))
  refine ⟨K.1, K.2.1, fun E X ad H locs ls hin => ?_⟩
  have hi := inb_in hi
  have hk := fun H' locs' q => K.2.2 E X ad H' locs' ls q
  obtain ⟨p, l1, e, R, s, m, args, below, meth, c, w1, ad0, h0⟩ := E
  obtain ⟨hx, hb, hml, hown, hts, hr, hlk, hnm, hxt, hKT, hKZ, hfr, hlo, hstt, hl1, hw1, hbase, htab⟩ := X
  cases v with
  | none =>
    exact va_WaastN (C := C) hx hb (hin.1.arr (t := t) hal hka) ((nd_tyk hKT t hC).1 _ _) (fun h => by cases h) (by show ¬ (i < 0 ∨ (arrV _ _ _).slots.size ≤ _); rw [arrV_size]; exact hi) rfl rfl d
      (fun H' e1 e2 e3 => hk H' _ (nd_stA hin hal (t := t) hka e1 e2 e3 (fun _ => rfl) (fun n q => nd_same_sR h a _ none n q) (fun x => nd_av_sR ad h none (t := t) hka h4 x) rfl rfl))
  | some b =>
    obtain ⟨hb1, q, hq, hc⟩ := hv b rfl
    have hbl : gL h b = true := laS_h a2 b rfl
    obtain ⟨kA, kv, kcomp, comp, k1, k2, k3, k4, k5⟩ := nd_asgn hKT h4 hC hq hc
    obtain ⟨cellV, g1, g2, g3, -⟩ := (hin.1.1 b hbl).2.2.1 q hq
    exact W.aast hx hb (hin.1.arr (t := t) hal hka) (fun q h => by cases h) (fun h => by cases h) k1 k2 rfl k3 ⟨fun q => hi (Or.inl q), by show _ < (arrV _ _ _).slots.size; rw [arrV_size]; exact Nat.not_le.mp fun q => hi (Or.inr q)⟩ g1 (fun q h => by rw [g3] at h; cases h) (by rw [g2]; exact k4) (by rw [g2]; exact k5) rfl rfl d
      (fun H' e1 e2 e3 => hk H' _ (nd_stA hin hal (t := t) hka e1 e2 e3 (fun _ => rfl) (fun n q => nd_same_sR h a _ (some b) n q) (fun x => nd_av_sR ad h (some b) (t := t) hka h4 x) rfl rfl))
end NdA
