set_option maxRecDepth 100000
/-! THE LAW's WALK out of its function -/
/-- the heap at the law's start: the script alone has a name -/
def nd_h0 : Hp := (fun n => n == 5, fun _ _ => 0, fun _ _ => none, fun _ _ => 0, fun _ _ => none, fun _ => 0, 0, 0)
theorem nd_arP {args : Array Value} {s : State} {ty : FieldType} (hp : ∀ cA, s.vm.findClass ("[" ++ ty.toString) = some cA → va_RA s cA ty) (h : (Cond.arrayClass ty).before args s = true) : ∃ cA, ArrOfT s cA ty ∧ va_RA s cA ty := by
  obtain ⟨c, k, comp, h1, h2, h3⟩ := Cond.arrayClass_spec h
  exact ⟨c, fun n z => ⟨fun k h => (by cases h), k, h2, comp, h3⟩, hp c h1⟩
theorem nd_arR {args : Array Value} {s : State} {C : String} (h : (Cond.arrayOver (.object C)).before args s = true) : ∃ cA, ArrOfT s cA (.object C) ∧ va_RA s cA (.object C) := by
  obtain ⟨comp, c, k, h0, -, h2, h3, h1⟩ := Cond.arrayOver_spec h
  exact ⟨c, fun n z => ⟨fun k h => (by cases h), k, h2, comp, h3⟩, k, comp, h2, h3, h0, h1⟩
theorem nd_world {args : Array Value} {s : State} (hts : ∀ w ∈ lw_tbl, w.before args s = true) : ∃ (dC : Nat → ClassId) (dI : Nat → Nat → Nat) (dA : Nat → ClassId), va_K (dC, dI) nd_cl (nd_tys dA) s := by
  obtain ⟨c0_, i0_, k0_⟩ := u_known (C := RX1) (T := TX1) (N := 12) (n := 12) hts (fun w h => lw_all_tbl (in_X1 w h)) (hts _ (lw_all_tbl q114))
  obtain ⟨c1_, i1_, k1_⟩ := u_known (C := RX2) (T := TX2) (N := 15) (n := 15) hts (fun w h => lw_all_tbl (in_X2 w h)) (hts _ (lw_all_tbl q122))
  obtain ⟨c2_, i2_, k2_⟩ := u_known (C := RX3) (T := TX3) (N := 6) (n := 6) hts (fun w h => lw_all_tbl (in_X3 w h)) (hts _ (lw_all_tbl q194))
  obtain ⟨c3_, i3_, k3_⟩ := u_known (C := RX4) (T := TX4) (N := 8) (n := 8) hts (fun w h => lw_all_tbl (in_X4 w h)) (hts _ (lw_all_tbl q226))
  obtain ⟨c4_, i4_, k4_⟩ := u_known (C := RX5) (T := TX5) (N := 3) (n := 3) hts (fun w h => lw_all_tbl (in_X5 w h)) (hts _ (lw_all_tbl q265))
  obtain ⟨c5_, i5_, k5_⟩ := u_known (C := RX6) (T := TX6) (N := 59) (n := 59) hts (fun w h => lw_all_tbl (in_X6 w h)) (hts _ (lw_all_tbl q1331))
  obtain ⟨c6_, i6_, k6_⟩ := u_known (C := RX9) (T := TX9) (N := 5) (n := 5) hts (fun w h => lw_all_tbl (in_X9 w h)) (hts _ (lw_all_tbl q413))
  obtain ⟨c7_, i7_, k7_⟩ := u_known (C := RX11) (T := TX11) (N := 4) (n := 4) hts (fun w h => lw_all_tbl (in_X11 w h)) (hts _ (lw_all_tbl q466))
  obtain ⟨c8_, i8_, k8_⟩ := u_known (C := RX12) (T := TX12) (N := 2) (n := 2) hts (fun w h => lw_all_tbl (in_X12 w h)) (hts _ (lw_all_tbl q565))
  obtain ⟨c9_, i9_, k9_⟩ := u_known (C := RX13) (T := TX13) (N := 2) (n := 2) hts (fun w h => lw_all_tbl (in_X13 w h)) (hts _ (lw_all_tbl q584))
  obtain ⟨c10_, i10_, k10_⟩ := u_known (C := RX14) (T := TX14) (N := 3) (n := 3) hts (fun w h => lw_all_tbl (in_X14 w h)) (hts _ (lw_all_tbl q590))
  obtain ⟨c11_, i11_, k11_⟩ := u_known (C := RX15) (T := TX15) (N := 2) (n := 2) hts (fun w h => lw_all_tbl (in_X15 w h)) (hts _ (lw_all_tbl q625))
  obtain ⟨c12_, i12_, k12_⟩ := u_known (C := RX16) (T := TX16) (N := 3) (n := 3) hts (fun w h => lw_all_tbl (in_X16 w h)) (hts _ (lw_all_tbl q641))
  obtain ⟨c13_, i13_, k13_⟩ := u_known (C := RX17) (T := TX17) (N := 9) (n := 9) hts (fun w h => lw_all_tbl (in_X17 w h)) (hts _ (lw_all_tbl q900))
  obtain ⟨a0_, b0_⟩ := nd_arP (s := s) (ty := .int) (fun _ h => h) (hts _ (lw_all_tbl q192))
  obtain ⟨a1_, b1_⟩ := nd_arP (s := s) (ty := .char) (fun _ h => h) (hts _ (lw_all_tbl q191))
  obtain ⟨a2_, b2_⟩ := nd_arP (s := s) (ty := .boolean) (fun _ h => h) (hts _ (lw_all_tbl q321))
  obtain ⟨a3_, b3_⟩ := nd_arP (s := s) (ty := .long) (fun _ h => h) (hts _ (lw_all_tbl q1807))
  obtain ⟨a4_, b4_⟩ := nd_arR (hts _ q128)
  obtain ⟨a5_, b5_⟩ := nd_arR (hts _ q130)
  obtain ⟨a6_, b6_⟩ := nd_arR (hts _ q132)
  obtain ⟨a7_, b7_⟩ := nd_arR (hts _ q134)
  obtain ⟨a8_, b8_⟩ := nd_arR (hts _ q136)
  obtain ⟨a9_, b9_⟩ := nd_arR (hts _ q138)
  obtain ⟨a10_, b10_⟩ := nd_arR (hts _ q140)
  obtain ⟨a11_, b11_⟩ := nd_arR (hts _ q200)
  refine ⟨fun k => if k = 0 then c0_ else if k = 1 then c1_ else if k = 2 then c2_ else if k = 3 then c3_ else if k = 4 then c4_ else if k = 5 then c5_ else if k = 6 then c6_ else if k = 7 then c7_ else if k = 8 then c8_ else if k = 9 then c9_ else if k = 10 then c10_ else if k = 11 then c11_ else if k = 12 then c12_ else c13_, fun k => if k = 0 then i0_ else if k = 1 then i1_ else if k = 2 then i2_ else if k = 3 then i3_ else if k = 4 then i4_ else if k = 5 then i5_ else if k = 6 then i6_ else if k = 7 then i7_ else if k = 8 then i8_ else if k = 9 then i9_ else if k = 10 then i10_ else if k = 11 then i11_ else if k = 12 then i12_ else i13_, fun k => if k = 0 then a0_ else if k = 1 then a1_ else if k = 2 then a2_ else if k = 3 then a3_ else if k = 4 then a4_ else if k = 5 then a5_ else if k = 6 then a6_ else if k = 7 then a7_ else if k = 8 then a8_ else if k = 9 then a9_ else if k = 10 then a10_ else a11_, fun k q hq => ?_, fun k q hq => ?_⟩
  · match k, hq with
    | 0, hq => cases hq; exact k0_
    | 1, hq => cases hq; exact k1_
    | 2, hq => cases hq; exact k2_
    | 3, hq => cases hq; exact k3_
    | 4, hq => cases hq; exact k4_
    | 5, hq => cases hq; exact k5_
    | 6, hq => cases hq; exact k6_
    | 7, hq => cases hq; exact k7_
    | 8, hq => cases hq; exact k8_
    | 9, hq => cases hq; exact k9_
    | 10, hq => cases hq; exact k10_
    | 11, hq => cases hq; exact k11_
    | 12, hq => cases hq; exact k12_
    | 13, hq => cases hq; exact k13_
    | k + 14, hq => simp [nd_cl] at hq
  · match k, hq with
    | 0, hq => cases hq; exact b0_
    | 1, hq => cases hq; exact b1_
    | 2, hq => cases hq; exact b2_
    | 3, hq => cases hq; exact b3_
    | 4, hq => cases hq; exact b4_
    | 5, hq => cases hq; exact b5_
    | 6, hq => cases hq; exact b6_
    | 7, hq => cases hq; exact b7_
    | 8, hq => cases hq; exact b8_
    | 9, hq => cases hq; exact b9_
    | 10, hq => cases hq; exact b10_
    | 11, hq => cases hq; exact b11_
    | k + 12, hq => simp [nd_tys] at hq
set_option maxHeartbeats 4000000 in
theorem nd_whole (F d : Nat) (hd : d ≤ 100) {p : Program} {e : Env} {s : State} {m : MethodId} {below : List Frame} {meth : Method} {c : Code} (l : Launch) (hflags : l.flags = flags0) {b L : Nat} {xs : Nat → Int32} {h' : Hp} (hf : fL_law F d L xs nd_h0 = some (1, h')) (hcC : gC h' ≤ 603072) (hcZ : gZ h' ≤ 7182442) (C0 : lw_At p s m meth c b L xs) : W p l e room_1 s m #[Value.ref b] below meth c s.heap [] 0 0 (lw_Z below #[Value.ref b] s) (entryFrame m ([Value.ref b] : List Value).toArray 7) := by
  obtain ⟨hx, hb, hr, hml, hown, hts0, hX, hbl, hlk, hgv⟩ := C0
  have hts : ∀ w ∈ lw_all, w.before #[Value.ref b] s = true := fun w h => hts0 w (lw_all_tbl h)
  obtain ⟨dC, dI, dA, hK⟩ := nd_world hts0
  have hflat := flat_of_before _ hgv
  have hfl : l.stackTraces = false := by
    show (!l.flags.contains noTraceFlag) = false
    rw [hflags]
    decide +kernel
  have hKT : nd_KT (dC, dI, dA, s.heap.size, b, L, xs) s := by
    refine ⟨hK, fun a i b' n d' h q => va_Nw.of rfl (hts0 _ q), fun a i x y q => va_Nw.of rfl (hts0 _ q), fun C T q => va_Nw.of rfl (hts0 _ q), fun C q => va_AO.of (hts0 _ q), fun x q => va_Nw.of rfl (hts0 _ q), fun q hq => ?_⟩
    simp only [nd_ncl, List.mem_cons, List.not_mem_nil, or_false] at hq
    rcases hq with rfl | rfl | rfl | rfl | rfl | rfl
    · exact va_Nc.of (hflat _ (by decide +kernel))
    · exact va_Nc.of (hflat _ (by decide +kernel))
    · exact va_Nc.of (hflat _ (by decide +kernel))
    · exact va_Nc.of (hflat _ (by decide +kernel))
    · exact va_Nc.of (hflat _ (by decide +kernel))
    · exact va_Nc.of (hflat _ (by decide +kernel))
  have hA : ∀ a : Nat, a < s.heap.size → ¬ s.heap.size ≤ a := fun a h => by omega
  have hKZ : nd_KZ (dC, dI, dA, s.heap.size, b, L, xs) s s.heap := by
    refine ⟨vx_Zqof (args := #[Value.ref b]) (hts0 _ q707) (hts _ q102) (hflat _ (by decide +kernel)) hA, vx_Zqof (args := #[Value.ref b]) (hts0 _ q709) (hts _ q102) (hflat _ (by decide +kernel)) hA, hX, hbl, Nat.le_refl _⟩
  have hV := tL_law l (dC, dI, dA, s.heap.size, b, L, xs) hfl F d hf
  have wf : nd_wf nd_h0 := ⟨fun n f b _ h => (by cases h), fun n j b _ h => (by cases h)⟩
  have hl5 : laL nd_h0 [(0, vr (some 5))] := by
    intro q hq
    rw [List.mem_singleton.mp hq]
    intro n e
    cases e
    rfl
  obtain ⟨hm, -, V⟩ := hV wf hl5 (fun v hv => by cases hv)
  have hl := lv_entry ([Value.ref b]) (n := 7) (Nat.le_of_ble_eq_true rfl)
  rw [lg_entry_eq]
  generalize (lg_sl ([Value.ref b]) ++ List.replicate (7 - (lg_sl ([Value.ref b])).length) Slot.unset).toArray = ls at hl ⊢
  have hlhas : lv_has ls c.maxLocals (trL (fun _ => b) [(0, vr (some 5))]) := by rw [hml]; exact hl
  have hP0 : nd_Rep (dC, dI, dA, s.heap.size, b, L, xs) (fun _ => b) nd_h0 s.heap := by
    refine ⟨fun n hn => ?_, fun n n' hn hn' _ => ?_, fun _ => rfl⟩
    · have : n = 5 := by simpa [nd_h0, gL] using hn
      subst this
      exact ⟨fun q => absurd rfl q, hbl, fun q hq => (by cases hq), fun h20 => absurd h20 (by decide +kernel)⟩
    · have e1 : n = 5 := by simpa [nd_h0, gL] using hn
      have e2 : n' = 5 := by simpa [nd_h0, gL] using hn'
      rw [e1, e2]
  have hW := V (p, l, e, room_1, s, m, #[Value.ref b], below, meth, c, (dC, dI, dA, s.heap.size, b, L, xs), (fun _ => b), nd_h0) ⟨hx, hb, hml, hown, hts, hr, hlk, (fun q => absurd q (by decide +kernel)), (fun q => absurd rfl q), hKT, hKZ, (by show _ ≤ 8192; omega), (by show _ ≤ 104096; omega), hfl, rfl, rfl, Nat.le_refl _, (fun q => absurd rfl q)⟩ (fun _ => b) s.heap [] ls ⟨hP0, va_S.rf, hlhas, fun n hn => ⟨hn, rfl⟩, (by show _ ≤ 603072; exact Nat.le_trans (Nat.sub_le _ _) hcC), (by show _ ≤ 7182442; exact Nat.le_trans (Nat.sub_le _ _) hcZ), Nat.le_refl _, Nat.le_refl _⟩
  intro T hT X
  obtain ⟨t, a1, o, b1, b2, b3⟩ := hW T hT X
  refine ⟨t, a1, o, b1, b2, ?_⟩
  rcases b3 with ⟨⟨ad, v, hv, ho, hE⟩, Ls, ⟨f1, f2, f3⟩, hLs⟩ | ⟨q, hq, EX, ce, Lx, ⟨ad, x, hx1, -⟩, -⟩
  · cases hv
    refine ⟨ho, f1, f2, ?_⟩
    have g1 := State.sameButNew.drop_fresh (L := []) (J := Ls) f3 hLs
    exact g1.mono (Nat.le_trans (Nat.sub_le _ _) hcC) (Nat.le_trans (Nat.sub_le _ _) hcZ)
  · cases hx1
