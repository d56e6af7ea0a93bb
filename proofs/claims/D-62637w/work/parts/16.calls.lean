/-! ROWS of nd_V: calls; a method's start -/
set_option maxRecDepth 100000
theorem nd_KT.same {w : Wd} {u U : State} (h : u.vm = U.vm) (K : nd_KT w u) : nd_KT w U :=
  ⟨va_K.moved (by rw [h]; exact Vm.Alike.refl _) K.1, fun a i b n d x q => (K.2.1 a i b n d x q).same rfl h, fun a i x y q => (K.2.2.1 a i x y q).same rfl h, fun C T q => (K.2.2.2.1 C T q).same rfl h, fun C q => va_AO.moved (by rw [h]; exact Vm.Alike.refl _) (K.2.2.2.2.1 C q), fun x q => (K.2.2.2.2.2.1 x q).same rfl h, fun q hq => va_Nc.moved (by rw [h]; exact Vm.Alike.refl _) (K.2.2.2.2.2.2 q hq)⟩
theorem nd_KT.warm {w : Wd} {u U : State} (h : u.WarmedH U.vm) (K : nd_KT w u) : nd_KT w U :=
  ⟨va_K.moved h.alike K.1, fun a i b n d x q => (K.2.1 a i b n d x q).warmF h, fun a i x y q => (K.2.2.1 a i x y q).warmM h, fun C T q => (K.2.2.2.1 C T q).warmC h, fun C q => va_AO.moved h.alike (K.2.2.2.2.1 C q), fun x q => (K.2.2.2.2.2.1 x q).warmD h, fun q hq => va_Nc.moved h.alike (K.2.2.2.2.2.2 q hq)⟩
theorem nd_KZ.to {w : Wd} {u U : State} {H H1 : Heap} (hv : u.vm.Alike U.vm) (hq : ∀ a : Nat, a < H.size → ¬ (w.2.2.2.1 ≤ a) → H1[a]? = H[a]?) (hz : w.2.2.2.1 ≤ H1.size) (K : nd_KZ w u H) : nd_KZ w U H1 :=
  by
    obtain ⟨k1, k2, ⟨scr, x1, x2, x3, x4, x5⟩, k4, k5⟩ := K
    have hlt : w.2.2.2.2.1 < H.size := (Array.getElem?_eq_some_iff.mp x1).1
    exact ⟨(k1.moved hv).kept hq, (k2.moved hv).kept hq, ⟨scr, (hq _ hlt (by omega)).trans x1, State.isArrayOf_alike hv x2, x3, x4, x5⟩, k4, hz⟩
/-- the contract's start -/
def nd_Pc (w : Wd) (ad : Nat → Nat) (h : Hp) (as : List AV) : Array Value → State → Prop := fun a U => a = (as.map (tv ad)).toArray ∧ nd_KT w U ∧ nd_KZ w U U.heap ∧ nd_Rep w ad h U.heap ∧ w.2.2.2.1 ≤ U.heap.size
theorem nd_Pc.blind (w : Wd) (ad : Nat → Nat) (h : Hp) (as : List AV) : FrameBlind (nd_Pc w ad h as) := fun _ U _ _ q => ⟨q.1, q.2.1.same (u := U) rfl, q.2.2.1.to (u := U) (H := U.heap) (Vm.Alike.refl _) (fun _ _ _ => rfl) q.2.2.2.2, q.2.2.2⟩
theorem nd_Pc.at {w : Wd} {ad : Nat → Nat} {h : Hp} {as : List AV} {s : State} {H : Heap} {locs : List Loc} (K : nd_KT w s) (Z : nd_KZ w s s.heap) (S : va_S (fun q => w.2.2.2.1 ≤ q) s.heap H locs) (P : nd_Rep w ad h H) (hB : w.2.2.2.1 ≤ s.heap.size) (U : State) (hU : U.heap = H) (hW : s.WarmedH U.vm) : nd_Pc w ad h as (as.map (tv ad)).toArray U :=
  ⟨rfl, K.warm hW, Z.to hW.alike (fun a h1 h2 => by rw [hU]; exact S.2.1 a h1 h2) (by rw [hU]; exact Nat.le_trans hB S.1), by rw [hU]; exact P, by rw [hU]; exact Nat.le_trans hB S.1⟩
section NdC
variable {l : Launch} {w : Wd} {r : Res} {h : Hp} {pc : Nat} {L L' : LL} {st st' : List AV} {y : MethodName} {cc : ByteArray} {nL fr lo : Nat} {ret : Option FieldType}
variable {yc : MethodName} {cb : ByteArray} {nLc frc loc : Nat} {retc : Option FieldType} {as : List AV} {rc : Res}
/-- behind a call -/
theorem nd_run {p : Program} {l1 : Launch} {e : Env} {R : Room} {s : State} {m : MethodId} {args : Array Value} {below : List Frame} {meth : Method} {c : Code} {w1 : Wd} {ad0 : Nat → Nat} {h0 : Hp} {ad : Nat → Nat} {H : Heap} {locs : List Loc} {ls : Array Slot} {st0 : List Value} {a : Array Value}
    (X : nd_Cx (p, l1, e, R, s, m, args, below, meth, c, w1, ad0, h0) l w y cc nL ret fr lo) (hin : nd_In (p, l1, e, R, s, m, args, below, meth, c, w1, ad0, h0) r h ad H locs ls L) (hL : laL h L) (hS : laS h st) (hm : nd_mono h rc.2) (hm2 : nd_mono rc.2 r.2)
    (hrun : vx_Run p l1 e R s m args below meth c H locs (gC h - gC h0) (gZ h - gZ h0) (gC rc.2 - gC h) (gZ rc.2 - gZ h) (F0 m pc ls st0) (st.map (tv ad)) (nd_Qc w1 ad h rc a) (nd_XC w1 ad h rc) (fun q => w1.2.2.2.1 ≤ q))
    (kk : ∀ v, rc.1 = .inl v → ∀ ad' H' locs', nd_In (p, l1, e, R, s, m, args, below, meth, c, w1, ad0, h0) r rc.2 ad' H' locs' ls L → nd_W (p, l1, e, R, s, m, args, below, meth, c, w1, ad0, h0) r rc.2 H' locs' (fun m => F0 m (pc + 3) ls ((v.toList ++ st).map (tv ad'))))
    (kx : ∀ x, rc.1 = .inr x → r = (.inr x, rc.2) ∧ y.cls ≠ "NotationDeskLaw") : nd_W (p, l1, e, R, s, m, args, below, meth, c, w1, ad0, h0) r h H locs (fun m => F0 m pc ls st0) := by
  obtain ⟨hx, hb, hml, hown, hts, hr, hlk, hnm, hxt, hKT, hKZ, hfr, hlo, hstt, hl1, hw1, hbase, htab⟩ := X
  obtain ⟨i1, i2, i3, i4, i5, i6, i7, i8⟩ := hin
  have c1 : gC h - gC h0 + (gC rc.2 - gC h) = gC rc.2 - gC h0 := by have := hm.2.1; omega
  have c2 : gZ h - gZ h0 + (gZ rc.2 - gZ h) = gZ rc.2 - gZ h0 := by have := hm.2.2; omega
  intro T hT Xs
  have mk : ∀ (ad' : Nat → Nat) (st₀ t T' : State) (Ls : List Loc), st₀.heap = H → T'.heap = t.heap → (∀ q ∈ Ls, w1.2.2.2.1 ≤ q.base) → nd_E2 w1 ad h rc ad' st₀ t → nd_In (p, l1, e, R, s, m, args, below, meth, c, w1, ad0, h0) r rc.2 ad' T'.heap (locs ++ Ls) ls L := by
    intro ad' st₀ t T' Ls e0 e1 hLs ⟨j1, j2, j3, j4⟩
    rw [e0] at j3 j4
    refine ⟨by rw [e1]; exact j1, ⟨by rw [e1]; exact Nat.le_trans i2.1 j3, fun q h1 h2 => ?_, fun q hq => ?_⟩, by rw [trL_ag hL j2]; exact i3, fun n hn => ⟨hm.1 n (i4 n hn).1, by rw [j2 n (i4 n hn).1]; exact (i4 n hn).2⟩, i5, i6, Nat.le_trans i7 hm.2.1, Nat.le_trans i8 hm.2.2⟩
    · rw [e1, j4 q (Nat.lt_of_lt_of_le h1 i2.1) h2]
      exact i2.2.1 q h1 h2
    · rcases List.mem_append.mp hq with h | h
      · exact i2.2.2 q h
      · exact hLs q h
  rcases hrun T hT Xs with ⟨v, st₀, t, T', Ls, e0, X', hLs, e1, e2, ⟨ad', v', hv1, hv2, hE⟩, hgo⟩ | ⟨q, st₀, t, T', Ls, EX, ce, e0, X', hLs, e1, e2, ⟨ad', x, hx1, hx2, hE⟩, hce, hcv, hcl, hgo⟩
  · have hi := mk ad' st₀ t T' Ls e0 e1 hLs hE
    have hv : v = v'.map (tv ad') := Outcome.returned.inj hv2
    rw [c1, c2] at X'
    obtain ⟨t2, a1, b1⟩ := kk v' hv1 ad' T'.heap (locs ++ Ls) hi T' rfl X'
    refine ⟨t2, hgo t2 ?_, b1⟩
    have : v.toList ++ st.map (tv ad) = (v'.toList ++ st).map (tv ad') := by
      rw [hv, List.map_append, tvS_ag hS hE.2.1]
      cases v' <;> rfl
    rw [this]
    exact a1
  · have hi := mk ad' st₀ t T' Ls e0 e1 hLs hE
    obtain ⟨hr2, hno⟩ := kx x hx1
    rw [c1, c2] at X'
    have out := vx_out (p := p) (l := l1) (e := e) (R := R) (s := s) (m := m) (args := args) (below := below) (meth := meth) (c := c) (H := T'.heap) (locs := locs ++ Ls) (cells := gC rc.2 - gC h0) (slots := gZ rc.2 - gZ h0) (free := fun q => w1.2.2.2.1 ≤ q) (ls := ls) (rest := st.map (tv ad)) (Qc := nd_Qc w1 ad0 h0 r) (XC := nd_XC w1 ad0 h0 r) (pc := pc) (mc := gC r.2 - gC h0) (ms := gZ r.2 - gZ h0) (fun z hz => (hxt hno z hz).elim) hlk (by rw [e1]; exact hce) hcv hcl
      (fun t' ht' hal' => by
        refine ⟨ad', x, by rw [hr2], hx2, by rw [ht', hr2]; exact hi.1, fun n hn => (hi.2.2.2.1 n hn).2, hi.2.1.F ht'⟩) hi.2.1.2.2 (by rw [hr2]; exact Nat.le_refl _) (by rw [hr2]; exact Nat.le_refl _)
    obtain ⟨t2, a1, b1⟩ := out T' rfl X'
    exact ⟨t2, hgo.trans a1, b1⟩
theorem nd_cat {ad : Nat → Nat} {n : Nat} (h : (st.map ac).sum ≤ n) : ((st.map (tv ad)).map fun v => v.category).sum ≤ n := by
  rw [List.map_map, show ((fun v => Value.category v) ∘ tv ad) = ac by funext v; exact tv_cat ad v]
  exact h
/-- the frame of all calls -/
theorem nd_callG (hCt : nd_C l w yc cb nLc retc frc loc as h rc) {st0 : List AV} (hst : laS h st0 → laS h as ∧ laS h st)
    (kk : ∀ v, rc.1 = .inl v → nd_rok retc rc → nd_V l w y cc nL ret fr lo r rc.2 (pc + 3) L (v.toList ++ st)) (kx : ∀ x, rc.1 = .inr x → r = (.inr x, rc.2) ∧ y.cls ≠ "NotationDeskLaw")
    (hrun : ∀ E : Ev, nd_Cx E l w y cc nL ret fr lo → ∀ (ad : Nat → Nat) (H : Heap) (locs : List Loc) (ls : Array Slot), nd_In E r h ad H locs ls L → nd_wf h → laS h st0 → gC h ≤ gC rc.2 → gC rc.2 ≤ gC r.2 → gZ h ≤ gZ rc.2 → gZ rc.2 ≤ gZ r.2 → vx_Met l yc (ws_ yc cb nLc retc) ({ frames := frc, cells := gC rc.2 - gC h, slots := gZ rc.2 - gZ h, locals := loc }) (nd_Pc w ad h as) (nd_Qc w ad h rc) (nd_XC w ad h rc) (gC rc.2 - gC h) (gZ rc.2 - gZ h) (fun q => w.2.2.2.1 ≤ q) →
      vx_Run E.1 E.2.1 E.2.2.1 E.2.2.2.1 E.2.2.2.2.1 E.2.2.2.2.2.1 E.2.2.2.2.2.2.1 E.2.2.2.2.2.2.2.1 E.2.2.2.2.2.2.2.2.1 E.2.2.2.2.2.2.2.2.2.1 H locs (gC h - gC E.2.2.2.2.2.2.2.2.2.2.2.2) (gZ h - gZ E.2.2.2.2.2.2.2.2.2.2.2.2) (gC rc.2 - gC h) (gZ rc.2 - gZ h) (F0 E.2.2.2.2.2.1 pc ls (st0.map (tv ad))) (st.map (tv ad)) (nd_Qc w ad h rc (as.map (tv ad)).toArray) (nd_XC w ad h rc) (fun q => w.2.2.2.1 ≤ q)) : nd_V l w y cc nL ret fr lo r h pc L st0 := by
  intro wf a1 a2
  obtain ⟨b1, b2⟩ := hst a2
  obtain ⟨hm, hok, hMet⟩ := hCt wf b1
  have hal : ∀ v, rc.1 = .inl v → laS rc.2 (v.toList ++ st) := fun v hv u hu => by
    rcases List.mem_append.mp hu with hu | hu
    · intro n en
      have : v = some (vr (some n)) := by
        rw [← en]
        cases v with
        | none => cases hu
        | some z => rw [List.mem_singleton.mp hu]
      exact (hok.2 n (by rw [hv, this])).1
    · exact la_mono hm (b2 u hu)
  have key : nd_mono rc.2 r.2 ∧ nd_rok ret r := by
    cases hr1 : rc.1 with
    | inl v =>
      have K := kk v hr1 hok hok.1 (laL_mono hm a1) (hal v hr1)
      exact ⟨K.1, K.2.1⟩
    | inr x =>
      have := (kx x hr1).1
      rw [this]
      exact ⟨nd_mono.rf _, hok.1, fun b eb => by cases eb⟩
  refine ⟨hm.tr key.1, key.2, fun E X ad H locs ls hin => ?_⟩
  have hrun2 := hrun E X ad H locs ls hin wf a2 hm.2.1 key.1.2.1 hm.2.2 key.1.2.2 (hMet ad)
  have kk2 := fun v hv ad' H' locs' hin' => (kk v hv hok hok.1 (laL_mono hm a1) (hal v hv)).2.2 E X ad' H' locs' ls hin'
  obtain ⟨p, l1, e, R, s, m, args, below, meth, c, w1, ad0, h0⟩ := E
  have X2 := X
  obtain ⟨-, -, -, -, -, -, -, -, -, -, -, -, -, -, hl1, hw1, -, -⟩ := X2
  subst hl1; subst hw1
  exact nd_run X hin a1 b2 hm key.1 hrun2 (fun v hv ad' H' locs' hin' => kk2 v hv ad' H' locs' hin') kx
theorem laS_app {h : Hp} {as st : List AV} (q : laS h (as.reverse ++ st)) : laS h as ∧ laS h st := ⟨fun v hv => q v (List.mem_append_left _ (List.mem_reverse.mpr hv)), fun v hv => q v (List.mem_append_right _ hv)⟩
theorem laS_appR {h : Hp} {as st : List AV} {b : Nat} (q : laS h (as.reverse ++ vr (some b) :: st)) : laS h (vr (some b) :: as) ∧ laS h st := ⟨fun v hv => by
  rcases List.mem_cons.mp hv with rfl | hv
  · exact q _ (List.mem_append_right _ List.mem_cons_self)
  · exact q v (List.mem_append_left _ (List.mem_reverse.mpr hv)), fun v hv => q v (List.mem_append_right _ (List.mem_cons_of_mem _ hv))⟩
/-- what a method's own words are -/
def nd_MW (yc : MethodName) (cb : ByteArray) (nLc : Nat) (retc : Option FieldType) (n : Nat) : Prop :=
  Cond.code yc cb nLc retc ∈ lw_all ∧ Cond.initialized yc.cls ∈ lw_all ∧ yc.cls ≠ "java/lang/invoke/MethodHandle" ∧ yc.cls ≠ "java/lang/invoke/VarHandle" ∧ (parseMethodDescriptor yc.desc).map (fun d => d.parameters.length) = some n
/-- a method's link, its class's own or a nest mate's -/
def nd_ML (own : String) (index : Nat) (yc : MethodName) : Prop := Cond.methodLink own index yc ∈ lw_all ∨ ∃ host, Cond.methodLinkNest own index yc host ∈ lw_tbl
theorem nd_callS {index : Nat} (hCt : nd_C l w yc cb nLc retc frc loc as h rc) (d : decode cc pc = .ok (.invokestatic index, 3)) (hM : nd_MW yc cb nLc retc as.length) (hl : nd_ML y.cls index yc) (hst : Cond.static yc ∈ lw_all) (hfr : frc + 1 ≤ fr) (hlo : 8 + (nLc + 11) + loc ≤ lo) (hsz : (st.map ac).sum ≤ 8)
    (kk : ∀ v, rc.1 = .inl v → nd_rok retc rc → nd_V l w y cc nL ret fr lo r rc.2 (pc + 3) L (v.toList ++ st)) (kx : ∀ x, rc.1 = .inr x → r = (.inr x, rc.2) ∧ y.cls ≠ "NotationDeskLaw") : nd_V l w y cc nL ret fr lo r h pc L (as.reverse ++ st) := by
  refine nd_callG hCt laS_app kk kx (fun E X ad H locs ls hin wf la c1 c2 c3 c4 hMet => ?_)
  obtain ⟨p, l1, e, R, s, m, args, below, meth, c, w1, ad0, h0⟩ := E
  obtain ⟨hx, hb, hml, hown, hts, hr, hlk, hnm, hxt, hKT, hKZ, hfR, hlR, hstt, hl1, hw1, hbase, htab⟩ := X
  subst hl1; subst hw1
  obtain ⟨i1, i2, i3, i4, i5, i6, i7, i8⟩ := hin
  have hroom : gC h - gC h0 + (gC rc.2 - gC h) ≤ R.cells ∧ gZ h - gZ h0 + (gZ rc.2 - gZ h) ≤ R.slots := ⟨by omega, by omega⟩
  have hp : PreS s H (nd_Pc w1 ad h as) (as.map (tv ad)) := ⟨nd_Pc.blind _ _ _ _, fun U hU hW => nd_Pc.at hKT hKZ i2 i1 hbase U hU hW⟩
  have hstk : (as.reverse ++ st).map (tv ad) = (as.map (tv ad)).reverse ++ st.map (tv ad) := by rw [List.map_append, List.map_reverse]
  rcases hl with hl | ⟨host, hl⟩
  · have cw : CallB R s args y.cls index yc cb nLc retc (ws_ yc cb nLc retc) ({ frames := frc, cells := gC rc.2 - gC h, slots := gZ rc.2 - gZ h, locals := loc }) (gC rc.2 - gC h) (gZ rc.2 - gZ h) as.length := callB_of as.length hts (lw_meth hM.1) rfl rfl rfl (hts _ hM.2.1) (hts _ hl) hM.2.2 ⟨Nat.le_trans hfr hfR, Nat.le_trans hlo hlR⟩
    exact vx_runS (Ts := lw_all) ⟨hx, hb, hml, hown, hts⟩ hMet ⟨cw, hts _ hst⟩ hp rfl (by simp) (i3.1.trans hml) hstk (by show 2 * 0 + _ ≤ 8; have := nd_cat (ad := ad) hsz; omega) d hroom
  · have cw : va_CN R s args y.cls index yc host cb nLc retc (ws_ yc cb nLc retc) ({ frames := frc, cells := gC rc.2 - gC h, slots := gZ rc.2 - gZ h, locals := loc }) (gC rc.2 - gC h) (gZ rc.2 - gZ h) as.length := va_cnB as.length hts (lw_meth hM.1) rfl rfl rfl (hKT.2.2.1 _ _ _ _ hl) (hts _ hM.2.1) hM.2.2 ⟨Nat.le_trans hfr hfR, Nat.le_trans hlo hlR⟩
    exact vx_runSN (Ts := lw_all) ⟨hx, hb, hml, hown, hts⟩ hMet ⟨cw, hts _ hst, trivial⟩ hp rfl (by simp) (i3.1.trans hml) hstk (by show 2 * 0 + _ ≤ 8; have := nd_cat (ad := ad) hsz; omega) d hroom
theorem nd_callI {index b : Nat} (hCt : nd_C l w yc cb nLc none frc loc (vr (some b) :: as) h rc) (d : decode cc pc = .ok (.invokespecial index, 3)) (hM : nd_MW yc cb nLc none as.length) (hl : nd_ML y.cls index yc) (hst : Cond.instanceMethod yc ∈ lw_all) (hnm1 : yc.name = "<init>") (hfr : frc + 1 ≤ fr) (hlo : 8 + (nLc + 11) + loc ≤ lo) (hsz : (st.map ac).sum ≤ 8)
    (kk : ∀ v, rc.1 = .inl v → nd_rok none rc → nd_V l w y cc nL ret fr lo r rc.2 (pc + 3) L (v.toList ++ st)) (kx : ∀ x, rc.1 = .inr x → r = (.inr x, rc.2) ∧ y.cls ≠ "NotationDeskLaw") : nd_V l w y cc nL ret fr lo r h pc L (as.reverse ++ vr (some b) :: st) := by
  refine nd_callG hCt laS_appR kk kx (fun E X ad H locs ls hin wf la c1 c2 c3 c4 hMet => ?_)
  obtain ⟨p, l1, e, R, s, m, args, below, meth, c, w1, ad0, h0⟩ := E
  obtain ⟨hx, hb, hml, hown, hts, hr, hlk, hnm, hxt, hKT, hKZ, hfR, hlR, hstt, hl1, hw1, hbase, htab⟩ := X
  subst hl1; subst hw1
  obtain ⟨i1, i2, i3, i4, i5, i6, i7, i8⟩ := hin
  have hroom : gC h - gC h0 + (gC rc.2 - gC h) ≤ R.cells ∧ gZ h - gZ h0 + (gZ rc.2 - gZ h) ≤ R.slots := ⟨by omega, by omega⟩
  have hp : PreS s H (nd_Pc w1 ad h (vr (some b) :: as)) (.ref (ad b) :: as.map (tv ad)) := ⟨nd_Pc.blind _ _ _ _, fun U hU hW => nd_Pc.at hKT hKZ i2 i1 hbase U hU hW⟩
  have hstk : (as.reverse ++ vr (some b) :: st).map (tv ad) = (as.map (tv ad)).reverse ++ .ref (ad b) :: st.map (tv ad) := by rw [List.map_append, List.map_reverse]; rfl
  rcases hl with hl | ⟨host, hl⟩
  · have cw : CallB R s args y.cls index yc cb nLc none (ws_ yc cb nLc none) ({ frames := frc, cells := gC rc.2 - gC h, slots := gZ rc.2 - gZ h, locals := loc }) (gC rc.2 - gC h) (gZ rc.2 - gZ h) as.length := callB_of as.length hts (lw_meth hM.1) rfl rfl rfl (hts _ hM.2.1) (hts _ hl) hM.2.2 ⟨Nat.le_trans hfr hfR, Nat.le_trans hlo hlR⟩
    exact vx_runI (Ts := lw_all) ⟨hx, hb, hml, hown, hts⟩ hMet ⟨cw, hnm1, hts _ hst⟩ hp rfl (by simp) (i3.1.trans hml) hstk (by show 2 * 0 + _ ≤ 8; have := nd_cat (ad := ad) hsz; omega) d hroom
  · have cw : va_CN R s args y.cls index yc host cb nLc none (ws_ yc cb nLc none) ({ frames := frc, cells := gC rc.2 - gC h, slots := gZ rc.2 - gZ h, locals := loc }) (gC rc.2 - gC h) (gZ rc.2 - gZ h) as.length := va_cnB as.length hts (lw_meth hM.1) rfl rfl rfl (hKT.2.2.1 _ _ _ _ hl) (hts _ hM.2.1) hM.2.2 ⟨Nat.le_trans hfr hfR, Nat.le_trans hlo hlR⟩
    exact vx_runIN (Ts := lw_all) ⟨hx, hb, hml, hown, hts⟩ hMet ⟨cw, hnm1, hts _ hst⟩ hp rfl (by simp) (i3.1.trans hml) hstk (by show 2 * 0 + _ ≤ 8; have := nd_cat (ad := ad) hsz; omega) d hroom
theorem nd_recv {w : Wd} {s : State} {ad : Nat → Nat} {H : Heap} {b ci : Nat} {q : vw_C} (K : nd_KT w s) (P : nd_Rep w ad h H) (hb : gL h b = true) (hk : nd_Kd b = ci) (hq : nd_cl[ci]? = some q) : ∃ cellB : Cell, H[ad b]? = some cellB ∧ cellB.vm.isStatics = false ∧ s.vm.findClass q.1 = some cellB.cls := by
  subst hk
  obtain ⟨cell, q1, q2, q3, -⟩ := (P.1 b hb).2.2.1 q hq
  exact ⟨cell, q1, by rw [q3]; rfl, by rw [q2]; exact (K.1.1 _ q hq).2.1⟩
theorem nd_callV {index b ci : Nat} {q : vw_C} (hCt : nd_C l w yc cb nLc retc frc loc (vr (some b) :: as) h rc) (d : decode cc pc = .ok (.invokevirtual index, 3)) (hk : nd_Kd b = ci) (hq : nd_cl[ci]? = some q) (hM : nd_MW yc cb nLc retc as.length) (hl : nd_ML y.cls index yc) (hst : Cond.instanceMethod yc ∈ lw_all) (hse : Cond.selects q.1 yc yc ∈ lw_all) (hfr : frc + 1 ≤ fr) (hlo : 8 + (nLc + 11) + loc ≤ lo) (hsz : (st.map ac).sum ≤ 8)
    (kk : ∀ v, rc.1 = .inl v → nd_rok retc rc → nd_V l w y cc nL ret fr lo r rc.2 (pc + 3) L (v.toList ++ st)) (kx : ∀ x, rc.1 = .inr x → r = (.inr x, rc.2) ∧ y.cls ≠ "NotationDeskLaw") : nd_V l w y cc nL ret fr lo r h pc L (as.reverse ++ vr (some b) :: st) := by
  refine nd_callG hCt laS_appR kk kx (fun E X ad H locs ls hin wf la c1 c2 c3 c4 hMet => ?_)
  obtain ⟨p, l1, e, R, s, m, args, below, meth, c, w1, ad0, h0⟩ := E
  obtain ⟨hx, hb, hml, hown, hts, hr, hlk, hnm, hxt, hKT, hKZ, hfR, hlR, hstt, hl1, hw1, hbase, htab⟩ := X
  subst hl1; subst hw1
  obtain ⟨i1, i2, i3, i4, i5, i6, i7, i8⟩ := hin
  have hroom : gC h - gC h0 + (gC rc.2 - gC h) ≤ R.cells ∧ gZ h - gZ h0 + (gZ rc.2 - gZ h) ≤ R.slots := ⟨by omega, by omega⟩
  have hbl : gL h b = true := (laS_appR la).1 _ List.mem_cons_self b rfl
  have hp : PreV s H q.1 (ad b) (nd_Pc w1 ad h (vr (some b) :: as)) (as.map (tv ad)) := ⟨nd_Pc.blind _ _ _ _, nd_recv hKT i1 hbl hk hq, fun U hU hW => nd_Pc.at hKT hKZ i2 i1 hbase U hU hW⟩
  have hstk : (as.reverse ++ vr (some b) :: st).map (tv ad) = (as.map (tv ad)).reverse ++ .ref (ad b) :: st.map (tv ad) := by rw [List.map_append, List.map_reverse]; rfl
  rcases hl with hl | ⟨host, hl⟩
  · have cw : CallB R s args y.cls index yc cb nLc retc (ws_ yc cb nLc retc) ({ frames := frc, cells := gC rc.2 - gC h, slots := gZ rc.2 - gZ h, locals := loc }) (gC rc.2 - gC h) (gZ rc.2 - gZ h) as.length := callB_of as.length hts (lw_meth hM.1) rfl rfl rfl (hts _ hM.2.1) (hts _ hl) hM.2.2 ⟨Nat.le_trans hfr hfR, Nat.le_trans hlo hlR⟩
    exact vx_runV (Ts := lw_all) ⟨hx, hb, hml, hown, hts⟩ hMet ⟨cw, hts _ hst, hts _ hse⟩ hp rfl (by simp) (i3.1.trans hml) hstk (by show 2 * 0 + _ ≤ 8; have := nd_cat (ad := ad) hsz; omega) d hroom
  · have cw : va_CN R s args y.cls index yc host cb nLc retc (ws_ yc cb nLc retc) ({ frames := frc, cells := gC rc.2 - gC h, slots := gZ rc.2 - gZ h, locals := loc }) (gC rc.2 - gC h) (gZ rc.2 - gZ h) as.length := va_cnB as.length hts (lw_meth hM.1) rfl rfl rfl (hKT.2.2.1 _ _ _ _ hl) (hts _ hM.2.1) hM.2.2 ⟨Nat.le_trans hfr hfR, Nat.le_trans hlo hlR⟩
    exact vx_runVN (Ts := lw_all) ⟨hx, hb, hml, hown, hts⟩ hMet ⟨cw, hts _ hst, hts _ hse⟩ hp rfl (by simp) (i3.1.trans hml) hstk (by show 2 * 0 + _ ≤ 8; have := nd_cat (ad := ad) hsz; omega) d hroom
/-- a call by the name x of a class above (or of an abstract method) that comes to the method yc -/
theorem nd_callU {index b ci : Nat} {q : vw_C} {x : MethodName} {owner : String} (hCt : nd_C l w yc cb nLc retc frc loc (vr (some b) :: as) h rc) (d : decode cc pc = .ok (.invokevirtual index, 3)) (hk : nd_Kd b = ci) (hq : nd_cl[ci]? = some q) (hM : nd_MW yc cb nLc retc as.length) (hl : Cond.methodLink y.cls index x ∈ lw_all) (hsa : Cond.sameMethod x.cls owner x.name x.desc ∈ lw_all)
    (hdc : Cond.declares ⟨owner, x.name, x.desc⟩ ∈ lw_tbl ∨ (Cond.instanceMethod ⟨owner, x.name, x.desc⟩ ∈ lw_all ∧ ∃ b0 m0 r0, Cond.code ⟨owner, x.name, x.desc⟩ b0 m0 r0 ∈ lw_all)) (hst : Cond.instanceMethod yc ∈ lw_all) (hse : Cond.selects q.1 x yc ∈ lw_all) (how : owner ≠ "java/lang/invoke/MethodHandle" ∧ owner ≠ "java/lang/invoke/VarHandle") (hdn : (parseMethodDescriptor x.desc).map (fun d => d.parameters.length) = some as.length) (hfr : frc + 1 ≤ fr) (hlo : 8 + (nLc + 11) + loc ≤ lo) (hsz : (st.map ac).sum ≤ 8)
    (kk : ∀ v, rc.1 = .inl v → nd_rok retc rc → nd_V l w y cc nL ret fr lo r rc.2 (pc + 3) L (v.toList ++ st)) (kx : ∀ x, rc.1 = .inr x → r = (.inr x, rc.2) ∧ y.cls ≠ "NotationDeskLaw") : nd_V l w y cc nL ret fr lo r h pc L (as.reverse ++ vr (some b) :: st) := by
  refine nd_callG hCt laS_appR kk kx (fun E X ad H locs ls hin wf la c1 c2 c3 c4 hMet => ?_)
  obtain ⟨p, l1, e, R, s, m, args, below, meth, c, w1, ad0, h0⟩ := E
  obtain ⟨hx, hb, hml, hown, hts, hr, hlk, hnm, hxt, hKT, hKZ, hfR, hlR, hstt, hl1, hw1, hbase, htab⟩ := X
  subst hl1; subst hw1
  obtain ⟨i1, i2, i3, i4, i5, i6, i7, i8⟩ := hin
  have hroom : gC h - gC h0 + (gC rc.2 - gC h) ≤ R.cells ∧ gZ h - gZ h0 + (gZ rc.2 - gZ h) ≤ R.slots := ⟨by omega, by omega⟩
  have hbl : gL h b = true := (laS_appR la).1 _ List.mem_cons_self b rfl
  have hp : PreV s H q.1 (ad b) (nd_Pc w1 ad h (vr (some b) :: as)) (as.map (tv ad)) := ⟨nd_Pc.blind _ _ _ _, nd_recv hKT i1 hbl hk hq, fun U hU hW => nd_Pc.at hKT hKZ i2 i1 hbase U hU hW⟩
  have hstk : (as.reverse ++ vr (some b) :: st).map (tv ad) = (as.map (tv ad)).reverse ++ .ref (ad b) :: st.map (tv ad) := by rw [List.map_append, List.map_reverse]; rfl
  have hDecl : va_Decl s ⟨owner, x.name, x.desc⟩ := by
    rcases hdc with hd | ⟨hd1, b0, m0, r0, hd2⟩
    · exact va_Decl.abs (hKT.2.2.2.2.2.1 _ hd)
    · exact va_Decl.of (hts _ hd1) (hts _ hd2)
  have hG := lw_meth hM.1
  have hc0 : Cond.code yc cb nLc retc ∈ ws_ yc cb nLc retc := List.mem_cons_self
  have cw : va_CU R s args y.cls q.1 owner index x yc cb nLc retc (ws_ yc cb nLc retc) ({ frames := frc, cells := gC rc.2 - gC h, slots := gZ rc.2 - gZ h, locals := loc }) (gC rc.2 - gC h) (gZ rc.2 - gZ h) as.length :=
    ⟨⟨rfl, rfl, Nat.le_trans hfr hfR, Nat.le_trans hlo hlR, pay_in hts hG, hc0⟩, hts _ hM.1, hts _ hM.2.1, how, fun sig h => by
      rw [h] at hdn
      exact (Option.some.inj hdn).symm, hts _ hl, hts _ hsa, hDecl, hts _ hse, hts _ hst⟩
  exact vx_runU (Ts := lw_all) ⟨hx, hb, hml, hown, hts⟩ hMet cw hp rfl (by simp) (i3.1.trans hml) hstk (by show 2 * 0 + _ ≤ 8; have := nd_cat (ad := ad) hsz; omega) d hroom
/-- a method's start: the contract out of the walk of its body -/
def nd_Ls : List AV → Nat → LL
  | [], _ => []
  | v :: r, k => (k, v) :: nd_Ls r (k + ac v)
theorem nd_Ls_tr (ad : Nat → Nat) : ∀ (as : List AV) (k : Nat), lv_args k (as.map (tv ad)) = trL ad (nd_Ls as k)
  | [], k => rfl
  | v :: r, k => by
    show (k, tv ad v) :: lv_args (if (tv ad v).category = 2 then k + 2 else k + 1) (r.map (tv ad)) = (k, tv ad v) :: trL ad (nd_Ls r (k + ac v))
    rw [tv_cat, ← nd_Ls_tr ad r (k + ac v)]
    rcases v with x | x | x <;> rfl
theorem nd_Ls_la {h : Hp} : ∀ {as : List AV} (k : Nat), laS h as → laL h (nd_Ls as k)
  | [], _, _ => fun q hq => by cases hq
  | v :: r, k, a => fun q hq => by
    rcases List.mem_cons.mp hq with rfl | hq
    · exact laS_h a
    · exact nd_Ls_la (k + ac v) (laS_t a) q hq
theorem nd_sl (ad : Nat → Nat) : ∀ as : List AV, (lg_sl (as.map (tv ad))).length = (as.map ac).sum
  | [] => rfl
  | v :: r => by
    have := nd_sl ad r
    rcases v with x | x | (_ | x) <;> simp [lg_sl, tv, ac, va_rf, Value.category] at * <;> omega
theorem nd_start (hfl : l.stackTraces = false) (hy : plainName y.cls = true) (hsz : (as.map ac).sum ≤ nL) (body : nd_V l w y cc nL ret fr lo r h 0 (nd_Ls as 0) []) : nd_C l w y cc nL ret fr lo as h r := by
  intro wf a1
  obtain ⟨hm, hok, V⟩ := body wf (nd_Ls_la 0 a1) (fun v hv => by cases hv)
  refine ⟨hm, hok, fun ad0 => vx_ofW (cc := cc) (maxL := nL) (ret := ret) hy rfl ?_⟩
  intro p e s m args below meth c s₁ B hml hxt hv
  obtain ⟨rfl, hKT, hKZ, hP, hB⟩ := hv
  have hts := atoms_spec (ws := ws_ y cc nL ret) B.pre
  have hts : ∀ w ∈ lw_all, w.before _ s = true := fun w h => hts w (List.mem_cons_of_mem _ h)
  have hown : s.vm.findClass y.cls = some m.cls := findClass_of_methodNamed B.named
  have hnm : meth.name = y.name := (name_of_methodNamed B.named B.method).1
  have hl := lv_entry (as.map (tv ad0)) (n := nL) (by rw [nd_sl]; exact hsz)
  rw [lg_entry_eq]
  generalize (lg_sl (as.map (tv ad0)) ++ List.replicate (nL - (lg_sl (as.map (tv ad0))).length) Slot.unset).toArray = ls at hl ⊢
  rw [nd_Ls_tr] at hl
  have := V (p, l, e, (headSpec (ws_ y cc nL ret) ({ frames := fr, cells := gC r.2 - gC h, slots := gZ r.2 - gZ h, locals := lo })).room, s, m, (as.map (tv ad0)).toArray, below, meth, c, w, ad0, h) ⟨B.exec, B.bytes, hml, hown, hts, B.returns, B.notSynchronized, (fun q => hnm.trans q), (fun _ => hxt), hKT, hKZ, Nat.le_refl _, Nat.le_refl _, hfl, rfl, rfl, hB, fun _ _ _ _ _ hc => vx_table (x := y) B (hts _ hc)⟩ ad0 s.heap [] ls ⟨hP, va_S.rf, by rw [hml]; exact hl, fun n hn => ⟨hn, rfl⟩, Nat.le_refl _, Nat.le_refl _, Nat.le_refl _, Nat.le_refl _⟩
  have e1 : gC h - gC h = 0 := Nat.sub_self _
  have e2 : gZ h - gZ h = 0 := Nat.sub_self _
  simp only [nd_W, e1, e2] at this
  exact this
end NdC
