/-! CATCH: a call that throws into a handler 'astore; iconst; ireturn'; methods with handlers; the law's own script -/
set_option maxRecDepth 100000
section NdX
variable {l : Launch} {w : Wd} {r : Res} {h : Hp} {pc : Nat} {L L' : LL} {st st' st0 : List AV} {y : MethodName} {cc : ByteArray} {nL fr lo : Nat} {ret : Option FieldType}
variable {yc : MethodName} {cb : ByteArray} {nLc frc loc : Nat} {retc : Option FieldType} {as : List AV} {rc : Res} {h' : Hp}
/-- a call that threw x, and the handler's int k -/
theorem nd_Vcatch {index b ci xx i : Nat} {q : vw_C} {k : Int32} {n1 : Nat} {kI : Int} {ps : List ExceptionTableEntry} {xe : ExceptionTableEntry} {sf : List ExceptionTableEntry} {b1 : ByteArray} {m1 : Nat} {r1 : Option FieldType} {hh : List (Nat × Nat × Nat × Nat)} {name : String}
    (st : List AV) (hCt : nd_C l w yc cb nLc retc frc loc (vr (some b) :: as) h (.inr xx, h')) (hS : st0 = as.reverse ++ vr (some b) :: st) (d : decode cc pc = .ok (.invokevirtual index, 3)) (hM : nd_MW yc cb nLc retc as.length) (hl : nd_ML y.cls index yc) (hk : nd_Kd b = ci) (hq : nd_cl[ci]? = some q) (hst : Cond.instanceMethod yc ∈ lw_all) (hse : Cond.selects q.1 yc yc ∈ lw_all) (hfr : frc + 1 ≤ fr) (hlo : 8 + (nLc + 11) + loc ≤ lo) (hsz : (st.map ac).sum ≤ 8)
    (hnl : y.name ≠ "law") (hcw : Cond.codeWith y b1 m1 r1 hh ∈ lw_all) (hsp : tableOf hh = ps ++ xe :: sf) (hpass : ∀ z ∈ ps, z.catchType ≠ 0 ∧ ∃ nm : String, Cond.classLink y.cls z.catchType nm ∈ lw_all ∧ (nd_xn xx, nm) ∈ nd_ncl) (hcov : covers xe pc = true) (h0 : xe.catchType ≠ 0) (hlink : Cond.classLink y.cls xe.catchType name ∈ lw_all) (hcast : Cond.castable (nd_xn xx) name ∈ lw_tbl)
    (hi : i < nL) (d1 : (decode cc xe.handlerPc = .ok (.astore i, 2) ∧ n1 = 2) ∨ (∃ kf : Fin 4, decode cc xe.handlerPc = .ok (.astore_n kf, 1) ∧ (kf : Nat) = i ∧ n1 = 1)) (d2 : decode cc (xe.handlerPc + n1) = .ok (.iconst kI, 1)) (hkI : Int32.ofInt kI = k) (d3 : decode cc (xe.handlerPc + n1 + 1) = .ok (.ireturn, 1)) : nd_V l w y cc nL (some .int) fr lo (.inl (some (vi k)), h') h pc L st0 := by
  subst hS
  intro wf a1 a2
  obtain ⟨b1', b2⟩ := laS_appR a2
  obtain ⟨hm, hok, hMet⟩ := hCt wf b1'
  refine ⟨hm, ⟨hok.1, fun b e => by cases e⟩, fun E X ad H locs ls hin => ?_⟩
  obtain ⟨p, l1, e, R, s, m, args, below, meth, c, w1, ad0, h0'⟩ := E
  obtain ⟨hx, hb, hml, hown, hts, hr, hlk, hnm, hxt, hKT, hKZ, hfR, hlR, hstt, hl1, hw1, hbase, htab⟩ := X
  subst hl1; subst hw1
  obtain ⟨i1, i2, i3, i4, i5, i6, i7, i8⟩ := hin
  have hbl : gL h b = true := b1' _ List.mem_cons_self b rfl
  have c1 : gC h ≤ gC h' := hm.2.1
  have c3 : gZ h ≤ gZ h' := hm.2.2
  have i5 : gC h' - gC h0' ≤ R.cells := i5
  have i6 : gZ h' - gZ h0' ≤ R.slots := i6
  have hroom : gC h - gC h0' + (gC h' - gC h) ≤ R.cells ∧ gZ h - gZ h0' + (gZ h' - gZ h) ≤ R.slots := ⟨by omega, by omega⟩
  have hp : PreV s H q.1 (ad b) (nd_Pc w1 ad h (vr (some b) :: as)) (as.map (tv ad)) := ⟨nd_Pc.blind _ _ _ _, nd_recv hKT i1 hbl hk hq, fun U hU hW => nd_Pc.at hKT hKZ i2 i1 hbase U hU hW⟩
  have hstk : (as.reverse ++ vr (some b) :: st).map (tv ad) = (as.map (tv ad)).reverse ++ .ref (ad b) :: st.map (tv ad) := by rw [List.map_append, List.map_reverse]; rfl
  have hrun : vx_Run p l1 e R s m args below meth c H locs (gC h - gC h0') (gZ h - gZ h0') (gC h' - gC h) (gZ h' - gZ h) (F0 m pc ls ((as.reverse ++ vr (some b) :: st).map (tv ad))) (st.map (tv ad)) (nd_Qc w1 ad h (.inr xx, h') (Value.ref (ad b) :: as.map (tv ad)).toArray) (nd_XC w1 ad h (.inr xx, h')) (fun q => w1.2.2.2.1 ≤ q) := by
    rcases hl with hl | ⟨host, hl⟩
    · have cw : CallB R s args y.cls index yc cb nLc retc (ws_ yc cb nLc retc) ({ frames := frc, cells := gC h' - gC h, slots := gZ h' - gZ h, locals := loc }) (gC h' - gC h) (gZ h' - gZ h) as.length := callB_of as.length hts (lw_meth hM.1) rfl rfl rfl (hts _ hM.2.1) (hts _ hl) hM.2.2 ⟨Nat.le_trans hfr hfR, Nat.le_trans hlo hlR⟩
      exact vx_runV (Ts := lw_all) ⟨hx, hb, hml, hown, hts⟩ (hMet ad) ⟨cw, hts _ hst, hts _ hse⟩ hp rfl (by simp) (i3.1.trans hml) hstk (by show 2 * 0 + _ ≤ 8; have := nd_cat (ad := ad) hsz; omega) d hroom
    · have cw : va_CN R s args y.cls index yc host cb nLc retc (ws_ yc cb nLc retc) ({ frames := frc, cells := gC h' - gC h, slots := gZ h' - gZ h, locals := loc }) (gC h' - gC h) (gZ h' - gZ h) as.length := va_cnB as.length hts (lw_meth hM.1) rfl rfl rfl (hKT.2.2.1 _ _ _ _ hl) (hts _ hM.2.1) hM.2.2 ⟨Nat.le_trans hfr hfR, Nat.le_trans hlo hlR⟩
      exact vx_runVN (Ts := lw_all) ⟨hx, hb, hml, hown, hts⟩ (hMet ad) ⟨cw, hts _ hst, hts _ hse⟩ hp rfl (by simp) (i3.1.trans hml) hstk (by show 2 * 0 + _ ≤ 8; have := nd_cat (ad := ad) hsz; omega) d hroom
  intro T hT Xs
  rcases hrun T hT Xs with ⟨v, st₀, t, T', Ls, e0, X', hLs, e1, e2, ⟨ad', v', hv1, hv2, hE⟩, hgo⟩ | ⟨qa, st₀, t, T', Ls, EX, ce, e0, X', hLs, e1, e2, ⟨ad', x, hx1, hx2, hE⟩, hce, hcv, hcl, hgo⟩
  · cases hv1
  · cases hx1
    subst hx2
    obtain ⟨j1, j2, j3, j4⟩ := hE
    rw [e0] at j3 j4
    have cc1 : gC h - gC h0' + (gC h' - gC h) = gC h' - gC h0' := by omega
    have cc2 : gZ h - gZ h0' + (gZ h' - gZ h) = gZ h' - gZ h0' := by omega
    rw [cc1, cc2] at X'
    have hS2 : va_S (fun q => w1.2.2.2.1 ≤ q) s.heap T'.heap (locs ++ Ls) := ⟨by rw [e1]; exact Nat.le_trans i2.1 j3, fun q h1 h2 => by rw [e1, j4 q (Nat.lt_of_lt_of_le h1 i2.1) h2]; exact i2.2.1 q h1 h2, fun q hq => by
      rcases List.mem_append.mp hq with h | h
      · exact i2.2.2 q h
      · exact hLs q h⟩
    have hlL : lv_has ls c.maxLocals (trL ad L) := i3
    have hiL : i < c.maxLocals := by rw [hml]; exact hi
    have fin : ∀ ls' : Array Slot, W p l1 e R s m args below meth c T'.heap (locs ++ Ls) (gC h' - gC h0') (gZ h' - gZ h0') (vx_MQ below (nd_Qc w1 ad0 h0' (.inl (some (vi k)), h')) (nd_XC w1 ad0 h0' (.inl (some (vi k)), h')) args s (gC h' - gC h0') (gZ h' - gZ h0') (fun q => w1.2.2.2.1 ≤ q)) (F0 m (xe.handlerPc + n1) ls' []) := by
      intro ls'
      refine lv_iconst hx hb d2 hkI ?_
      refine vx_ret (W.iret hx hb hr (fun t' ht' hW' => ?_) hS2.2.2 d3 hlk)
      exact ⟨ad', some (vi k), rfl, rfl, by rw [ht', e1]; exact j1, fun n hn => by rw [j2 n (i4 n hn).1]; exact (i4 n hn).2, hS2.F ht'⟩
    have kk : W p l1 e R s m args below meth c T'.heap (locs ++ Ls) (gC h' - gC h0') (gZ h' - gZ h0') (vx_MQ below (nd_Qc w1 ad0 h0' (.inl (some (vi k)), h')) (nd_XC w1 ad0 h0' (.inl (some (vi k)), h')) args s (gC h' - gC h0') (gZ h' - gZ h0') (fun q => w1.2.2.2.1 ≤ q)) (F0 m xe.handlerPc ls [.ref qa]) := by
      rcases d1 with ⟨d1, rfl⟩ | ⟨kf, d1, hkf, rfl⟩
      · exact lv_astore hx hb d1 hlL hiL rfl (fun ls' _ => fin ls')
      · exact lv_astore_n hx hb d1 hkf hlL hiL rfl (fun ls' _ => fin ls')
    have out := vx_catch (p := p) (l := l1) (e := e) (R := R) (s := s) (m := m) (args := args) (below := below) (meth := meth) (c := c) (H := T'.heap) (locs := locs ++ Ls) (cells := gC h' - gC h0') (slots := gZ h' - gZ h0') (pc := pc) (ls := ls) (rest := st.map (tv ad)) hown ps xe sf ((htab hnl _ _ _ _ hcw).trans hsp)
      (fun z hz => Or.inr ⟨(hpass z hz).1, by obtain ⟨nm, g1, g2⟩ := (hpass z hz).2; exact ⟨nm, hts _ g1, hKT.2.2.2.2.2.2 _ g2⟩⟩) hcov h0 (hts _ hlink) (va_Nw.use rfl (hKT.2.2.2.1 _ _ hcast)) (by rw [e1]; exact hce) hcv hcl kk
    obtain ⟨t2, a1', b1''⟩ := out T' rfl X'
    exact ⟨t2, hgo.trans a1', b1''⟩
/-- the contract of a method with handlers (it returns) -/
def nd_CW (l : Launch) (w : Wd) (y : MethodName) (cc : ByteArray) (nL : Nat) (ret : Option FieldType) (hh : List (Nat × Nat × Nat × Nat)) (fr lo : Nat) (as : List AV) (h : Hp) (r : Res) : Prop :=
  nd_wf h → laS h as → nd_mono h r.2 ∧ nd_rok ret r ∧ ∀ ad0, Met l y (wsW_ y cc nL ret hh) ({ frames := fr, cells := gC r.2 - gC h, slots := gZ r.2 - gZ h, locals := lo }) (nd_Pc w ad0 h as) (nd_Qc w ad0 h r) (gC r.2 - gC h) (gZ r.2 - gZ h) (fun q => w.2.2.2.1 ≤ q)
theorem nd_startW {hh : List (Nat × Nat × Nat × Nat)} {v : Option AV} (hfl : l.stackTraces = false) (hy : plainName y.cls = true) (hlaw : y.cls = "NotationDeskLaw") (hsz : (as.map ac).sum ≤ nL) (hr1 : r.1 = .inl v) (body : nd_V l w y cc nL ret fr lo r h 0 (nd_Ls as 0) []) : nd_CW l w y cc nL ret hh fr lo as h r := by
  intro wf a1
  obtain ⟨hm, hok, V⟩ := body wf (nd_Ls_la 0 a1) (fun v hv => by cases hv)
  refine ⟨hm, hok, fun ad0 => ?_⟩
  have K : vx_Met l y (wsW_ y cc nL ret hh) ({ frames := fr, cells := gC r.2 - gC h, slots := gZ r.2 - gZ h, locals := lo }) (nd_Pc w ad0 h as) (nd_Qc w ad0 h r) (nd_XC w ad0 h r) (gC r.2 - gC h) (gZ r.2 - gZ h) (fun q => w.2.2.2.1 ≤ q) := by
    refine vx_ofWH (cc := cc) (maxL := nL) (ret := ret) (hh := hh) hy rfl ?_
    intro p e s m args below meth c s₁ B hml hv
    obtain ⟨rfl, hKT, hKZ, hP, hB⟩ := hv
    have hts := atoms_spec (ws := wsW_ y cc nL ret hh) B.pre
    have hts : ∀ w ∈ lw_all, w.before _ s = true := fun w h => hts w (List.mem_cons_of_mem _ h)
    have hown : s.vm.findClass y.cls = some m.cls := findClass_of_methodNamed B.named
    have hnm : meth.name = y.name := (name_of_methodNamed B.named B.method).1
    have hl := lv_entry (as.map (tv ad0)) (n := nL) (by rw [nd_sl]; exact hsz)
    rw [lg_entry_eq]
    generalize (lg_sl (as.map (tv ad0)) ++ List.replicate (nL - (lg_sl (as.map (tv ad0))).length) Slot.unset).toArray = ls at hl ⊢
    rw [nd_Ls_tr] at hl
    have := V (p, l, e, (headSpec (wsW_ y cc nL ret hh) ({ frames := fr, cells := gC r.2 - gC h, slots := gZ r.2 - gZ h, locals := lo })).room, s, m, (as.map (tv ad0)).toArray, below, meth, c, w, ad0, h) ⟨B.exec, B.bytes, hml, hown, hts, B.returns, B.notSynchronized, (fun q => hnm.trans q), (fun q => absurd hlaw q), hKT, hKZ, Nat.le_refl _, Nat.le_refl _, hfl, rfl, rfl, hB, fun _ _ _ _ _ hc => vx_table (x := y) B (hts _ hc)⟩ ad0 s.heap [] ls ⟨hP, va_S.rf, by rw [hml]; exact hl, fun n hn => ⟨hn, rfl⟩, Nat.le_refl _, Nat.le_refl _, Nat.le_refl _, Nat.le_refl _⟩
    have e1 : gC h - gC h = 0 := Nat.sub_self _
    have e2 : gZ h - gZ h = 0 := Nat.sub_self _
    simp only [nd_W, e1, e2] at this
    exact this
  intro p e ha hcs hk s m args below hfr happ hP hK
  obtain ⟨n, o, g1, g2, g3, g4⟩ := K p e ha hcs hk s m args below hfr happ hP hK
  refine ⟨n, o, g1, g2, g3, ?_⟩
  rcases g4 with g4 | ⟨q, hq, EX, ce, Lx, ⟨ad, x, hx1, -⟩, -⟩
  · exact g4
  · rw [hr1] at hx1; cases hx1
/-- a static call of a method with handlers -/
theorem nd_SWi {index : Nat} {v : Int32} {hh : List (Nat × Nat × Nat × Nat)} (st : List AV) (hCt : nd_CW l w yc cb nLc retc hh frc loc as h (.inl (some (vi v)), h')) (hS : st0 = as.reverse ++ st) (d : decode cc pc = .ok (.invokestatic index, 3)) (hc : Cond.codeWith yc cb nLc retc hh ∈ lw_all) (hini : Cond.initialized yc.cls ∈ lw_all) (hd : yc.cls ≠ "java/lang/invoke/MethodHandle" ∧ yc.cls ≠ "java/lang/invoke/VarHandle" ∧ (parseMethodDescriptor yc.desc).map (fun d => d.parameters.length) = some as.length) (hl : Cond.methodLink y.cls index yc ∈ lw_all) (hst : Cond.static yc ∈ lw_all) (hfr : frc + 1 ≤ fr) (hlo : 8 + (nLc + 11) + loc ≤ lo) (hsz : (st.map ac).sum ≤ 8)
    (kk : nd_V l w y cc nL ret fr lo r h' (pc + 3) L (vi v :: st)) : nd_V l w y cc nL ret fr lo r h pc L st0 := by
  subst hS
  intro wf a1 a2
  obtain ⟨b1, b2⟩ := laS_app a2
  obtain ⟨hm, hok, hMet⟩ := hCt wf b1
  have K := kk hok.1 (laL_mono hm a1) (laS_i _ (laS_mono hm b2))
  refine ⟨hm.tr K.1, K.2.1, fun E X ad H locs ls hin => ?_⟩
  have KW := fun ad' H' locs' q => K.2.2 E X ad' H' locs' ls q
  obtain ⟨p, l1, e, R, s, m, args, below, meth, c, w1, ad0, h0⟩ := E
  have X0 := X
  obtain ⟨hx, hb, hml, hown, hts, hr, hlk, hnm, hxt, hKT, hKZ, hfR, hlR, hstt, hl1, hw1, hbase, htab⟩ := X
  subst hl1; subst hw1
  have hin0 := hin
  obtain ⟨i1, i2, i3, i4, i5, i6, i7, i8⟩ := hin
  have c1 : gC h ≤ gC h' := hm.2.1
  have c2 : gC h' ≤ gC r.2 := K.1.2.1
  have c3 : gZ h ≤ gZ h' := hm.2.2
  have c4 : gZ h' ≤ gZ r.2 := K.1.2.2
  have hroom : gC h - gC h0 + (gC h' - gC h) ≤ R.cells ∧ gZ h - gZ h0 + (gZ h' - gZ h) ≤ R.slots := ⟨by omega, by omega⟩
  have hp : PreS s H (nd_Pc w1 ad h as) (as.map (tv ad)) := ⟨nd_Pc.blind _ _ _ _, fun U hU hW => nd_Pc.at hKT hKZ i2 i1 hbase U hU hW⟩
  have hstk : (as.reverse ++ st).map (tv ad) = (as.map (tv ad)).reverse ++ st.map (tv ad) := by rw [List.map_append, List.map_reverse]
  have cw : vx_CSW R s args y.cls index yc cb nLc retc hh (wsW_ yc cb nLc retc hh) ({ frames := frc, cells := gC h' - gC h, slots := gZ h' - gZ h, locals := loc }) (gC h' - gC h) (gZ h' - gZ h) as.length := vx_cwSW as.length hts (lw_SW hl hst hini hc) rfl rfl rfl hd ⟨Nat.le_trans hfr hfR, Nat.le_trans hlo hlR⟩
  have hrun := vx_runSW (e := e) (below := below) (meth := meth) (locs := locs) (Ts := lw_all) (rest := st.map (tv ad)) (g := F0 m pc ls ((as.reverse ++ st).map (tv ad))) ⟨hx, hb, hml, hown, hts⟩ (hMet ad) cw hp rfl (by simp) (i3.1.trans hml) hstk (by show 2 * 0 + _ ≤ 8; have := nd_cat (ad := ad) hsz; omega) d hroom
  exact nd_run (rc := (.inl (some (vi v)), h')) X0 hin0 a1 b2 hm K.1 (fun T hT Xs => Or.inl (hrun T hT Xs)) (fun v' hv' ad' H' locs' hin' => by cases hv'; exact KW ad' H' locs' hin') (fun x hx => by cases hx)
/-- the script's length and its ints -/
theorem nd_slen (d : decode cc pc = .ok (.arraylength, 1)) (kk : nd_V l w y cc nL ret fr lo r h (pc + 1) L (vi (Int32.ofNat w.2.2.2.2.2.1) :: st)) : nd_V l w y cc nL ret fr lo r h pc L (vr (some 5) :: st) := by
  intro wf a1 a2
  have hal : gL h 5 = true := laS_h a2 5 rfl
  have K := kk wf a1 (laS_i _ (laS_t a2))
  refine ⟨K.1, K.2.1, fun E X ad H locs ls hin => ?_⟩
  have hk := K.2.2 E X ad H locs ls hin
  obtain ⟨p, l1, e, R, s, m, args, below, meth, c, w1, ad0, h0⟩ := E
  obtain ⟨hx, hb, hml, hown, hts, hr, hlk, hnm, hxt, hKT, hKZ, hfR, hlR, hstt, hl1, hw1, hbase, htab⟩ := X
  subst hl1; subst hw1
  obtain ⟨scr, x1, x2, x3, x4, x5⟩ := hKZ.2.2.1
  have hlt : w1.2.2.2.2.1 < s.heap.size := (Array.getElem?_eq_some_iff.mp x1).1
  have e5 : ad 5 = w1.2.2.2.2.1 := hin.1.2.2 hal
  have hb5 := hKZ.2.2.2.1
  have hcell : H[ad 5]? = some scr := by rw [e5, hin.2.1.2.1 _ hlt (by omega)]; exact x1
  exact W.alen (n := Int32.ofNat w1.2.2.2.2.2.1) hx hb hcell x2 (by rw [x4]) rfl rfl d hk
theorem nd_sald {i : Int32} (d : decode cc pc = .ok (.iaload, 1)) (hi : inb i w.2.2.2.2.2.1 = true) (kk : nd_V l w y cc nL ret fr lo r h (pc + 1) L (vi (w.2.2.2.2.2.2 i.toNatClampNeg) :: st)) : nd_V l w y cc nL ret fr lo r h pc L (vi i :: vr (some 5) :: st) := by
  intro wf a1 a2
  have hal : gL h 5 = true := laS_h (laS_t a2) 5 rfl
  have K := kk wf a1 (laS_i _ (laS_t (laS_t a2)))
  refine ⟨K.1, K.2.1, fun E X ad H locs ls hin => ?_⟩
  have hk := K.2.2 E X ad H locs ls hin
  have hi := inb_in hi
  obtain ⟨p, l1, e, R, s, m, args, below, meth, c, w1, ad0, h0⟩ := E
  obtain ⟨hx, hb, hml, hown, hts, hr, hlk, hnm, hxt, hKT, hKZ, hfR, hlR, hstt, hl1, hw1, hbase, htab⟩ := X
  subst hl1; subst hw1
  obtain ⟨scr, x1, x2, x3, x4, x5⟩ := hKZ.2.2.1
  have hlt : w1.2.2.2.2.1 < s.heap.size := (Array.getElem?_eq_some_iff.mp x1).1
  have e5 : ad 5 = w1.2.2.2.2.1 := hin.1.2.2 hal
  have hb5 := hKZ.2.2.2.1
  have hcell : H[ad 5]? = some scr := by rw [e5, hin.2.1.2.1 _ hlt (by omega)]; exact x1
  have hlt2 : i.toNatClampNeg < w1.2.2.2.2.2.1 := Nat.not_le.mp fun q => hi (Or.inr q)
  exact W.iald (v := .int (w1.2.2.2.2.2.2 i.toNatClampNeg)) hx hb hcell x2 x3 (by rw [x4]; exact hi) (x5 _ hlt2) rfl rfl d hk
end NdX
def cy {α β : Type} (x : Option ((β ⊕ Nat) × Hp)) (c : Nat → Hp → Option α) (k : β → Hp → Option α) : Option α := match x with
  | some (.inl v, h) => k v h
  | some (.inr e, h) => c e h
  | none => none
theorem cyE {α β : Type} {x : Option ((β ⊕ Nat) × Hp)} {k : β → Hp → Option α} {c : Nat → Hp → Option α} {r : α} (h : cy x c k = some r) : (∃ v h', x = some (.inl v, h') ∧ k v h' = some r) ∨ (∃ e h', x = some (.inr e, h') ∧ c e h' = some r) := by
  match x, h with
  | some (.inl v, h'), h => exact Or.inl ⟨v, h', rfl, h⟩
  | some (.inr e, h'), h => exact Or.inr ⟨e, h', rfl, h⟩
  | none, h => cases h
