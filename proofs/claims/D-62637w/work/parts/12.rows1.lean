/-! ROWS of nd_V: constants, locals, arithmetic, stack, branches (printed by tools/rows1.py) -/
set_option maxRecDepth 100000
theorem laS_i {h : Hp} {st : List AV} (x : Int32) (a : laS h st) : laS h (vi x :: st) := fun v hv => by
  rcases List.mem_cons.mp hv with rfl | hv
  · intro n e; cases e
  · exact a v hv
theorem laS_l {h : Hp} {st : List AV} (x : Int64) (a : laS h st) : laS h (vl x :: st) := fun v hv => by
  rcases List.mem_cons.mp hv with rfl | hv
  · intro n e; cases e
  · exact a v hv
theorem laS_c {h : Hp} {st : List AV} {v : AV} (b : la h v) (a : laS h st) : laS h (v :: st) := fun u hu => by
  rcases List.mem_cons.mp hu with rfl | hu
  · exact b
  · exact a u hu
theorem laS_t {h : Hp} {st : List AV} {v : AV} (a : laS h (v :: st)) : laS h st := fun u hu => a u (List.mem_cons_of_mem _ hu)
theorem laS_h {h : Hp} {st : List AV} {v : AV} (a : laS h (v :: st)) : la h v := a v List.mem_cons_self
theorem laL_at {h : Hp} {L : LL} {i j : Nat} {v : AV} (a : laL h L) (e : L[j]? = some (i, v)) : la h v := a (i, v) (List.mem_of_getElem? e)
theorem la_null (h : Hp) : la h (vr none) := fun n e => by cases e
theorem la_i (h : Hp) (x : Int32) : la h (vi x) := fun n e => by cases e
theorem trL_at {ad : Nat → Nat} {L : LL} {i j : Nat} {v : AV} (e : L[j]? = some (i, v)) : (trL ad L)[j]? = some (i, tv ad v) := by
  simp [trL, e]
def LLst (L : LL) (i : Nat) (v : AV) : LL := (i, v) :: L.filter (fun q => !(q.1 == i) && !(q.1 + 1 == i && ac q.2 == 2))
theorem trL_st (ad : Nat → Nat) (L : LL) (i : Nat) (v : AV) : (i, tv ad v) :: (trL ad L).filter (fun q => !(q.1 == i) && !(q.1 + 1 == i && q.2.category == 2)) = trL ad (LLst L i v) := by
  simp [trL, LLst, List.filter_map, Function.comp_def, tv_cat]
theorem laL_st {h : Hp} {L L' : LL} {i : Nat} {v : AV} (a : laL h L) (b : la h v) (e : LLst L i v = L') : laL h L' := by
  subst e
  intro q hq
  rcases List.mem_cons.mp hq with rfl | hq
  · exact b
  · exact a q (List.mem_filter.mp hq).1
section NdRows
variable {l : Launch} {w : Wd} {r : Res} {h : Hp} {pc : Nat} {L L' : LL} {st st' : List AV} {y : MethodName} {cc : ByteArray} {nL fr lo : Nat} {ret : Option FieldType}
theorem nd_step {pc' : Nat} (hs : laS h st → laS h st') (kk : nd_V l w y cc nL ret fr lo r h pc' L st')
    (hw : ∀ E, nd_Cx E l w y cc nL ret fr lo → ∀ ad H locs ls, nd_In E r h ad H locs ls L → nd_W E r h H locs (fun m => F0 m pc' ls (st'.map (tv ad))) → nd_W E r h H locs (fun m => F0 m pc ls (st.map (tv ad)))) : nd_V l w y cc nL ret fr lo r h pc L st := fun a b c =>
  have k := kk a b (hs c)
  ⟨k.1, k.2.1, fun E X ad H locs ls hin => hw E X ad H locs ls hin (k.2.2 E X ad H locs ls hin)⟩
/-- fewer locals, in any order -/
theorem nd_loc (ks : List Nat) (hl : ks.filterMap (fun k => L[k]?) = L') (kk : nd_V l w y cc nL ret fr lo r h pc L' st) : nd_V l w y cc nL ret fr lo r h pc L st := by
  intro a b c
  have hsub : ∀ q ∈ L', q ∈ L := by
    intro q hq
    rw [← hl] at hq
    obtain ⟨k, -, hk⟩ := List.mem_filterMap.mp hq
    exact List.mem_of_getElem? hk
  have k := kk a (fun q hq => b q (hsub q hq)) c
  refine ⟨k.1, k.2.1, fun E X ad H locs ls hin => k.2.2 E X ad H locs ls ?_⟩
  obtain ⟨p, l1, e, R, s, m, args, below, meth, c0, w1, ad0, h0⟩ := E
  obtain ⟨h1, h2, ⟨h3, h4, h5⟩, h6⟩ := hin
  refine ⟨h1, h2, ⟨h3, h4, fun q hq => ?_⟩, h6⟩
  obtain ⟨q0, hq0, rfl⟩ := List.mem_map.mp hq
  exact h5 _ (List.mem_map.mpr ⟨q0, hsub q0 hq0, rfl⟩)
theorem nd_eqS (e : st = st') (kk : nd_V l w y cc nL ret fr lo r h pc L st') : nd_V l w y cc nL ret fr lo r h pc L st := e ▸ kk
theorem nd_eqL (e : L = L') (kk : nd_V l w y cc nL ret fr lo r h pc L' st) : nd_V l w y cc nL ret fr lo r h pc L st := e ▸ kk
theorem nd_eqH {h' : Hp} (e : h = h') (kk : nd_V l w y cc nL ret fr lo r h' pc L st) : nd_V l w y cc nL ret fr lo r h pc L st := e ▸ kk
theorem nd_eqP {pc' : Nat} (e : pc = pc') (kk : nd_V l w y cc nL ret fr lo r h pc' L st) : nd_V l w y cc nL ret fr lo r h pc L st := e ▸ kk
theorem nd_storeV {pc' : Nat} {i : Nat} {v : AV} (hl : LLst L i v = L') (kk : nd_V l w y cc nL ret fr lo r h pc' L' st)
    (hw : ∀ E, nd_Cx E l w y cc nL ret fr lo → ∀ ad H locs ls, nd_In E r h ad H locs ls L → (∀ ls', nd_In E r h ad H locs ls' L' → nd_W E r h H locs (fun m => F0 m pc' ls' (st.map (tv ad)))) → nd_W E r h H locs (fun m => F0 m pc ls ((v :: st).map (tv ad)))) : nd_V l w y cc nL ret fr lo r h pc L (v :: st) := fun a b c =>
  have k := kk a (laL_st b (laS_h c) hl) (laS_t c)
  ⟨k.1, k.2.1, fun E X ad H locs ls hin => hw E X ad H locs ls hin (fun ls' hin' => k.2.2 E X ad H locs ls' hin')⟩
theorem nd_In_loc {p : Program} {l : Launch} {e : Env} {R : Room} {s : State} {m : MethodId} {args : Array Value} {below : List Frame} {meth : Method} {c : Code} {w : Wd} {ad0 : Nat → Nat} {h0 : Hp} {ad : Nat → Nat} {H : Heap} {locs : List Loc} {ls ls' : Array Slot}
    (hin : nd_In (p, l, e, R, s, m, args, below, meth, c, w, ad0, h0) r h ad H locs ls L) (hl : lv_has ls' c.maxLocals (trL ad L')) : nd_In (p, l, e, R, s, m, args, below, meth, c, w, ad0, h0) r h ad H locs ls' L' := by
  obtain ⟨h1, h2, h3, h6⟩ := hin
  exact ⟨h1, h2, hl, h6⟩
theorem nd_iconst {n : Int} {v : Int32} (d : decode cc pc = .ok (.iconst n, 1)) (hv : Int32.ofInt n = v) (kk : nd_V l w y cc nL ret fr lo r h (pc + 1) L (vi v :: st)) : nd_V l w y cc nL ret fr lo r h pc L (st) := by
  exact nd_step (fun q => laS_i _ q) kk (fun E X ad H locs ls hin hW => by
    obtain ⟨p, l1, e, R, s, m, args, below, meth, c, w1, ad0, h0⟩ := E
    obtain ⟨hx, hb, hml, hown, hts, hr, hlk, hnm, hxt, hKT, hKZ, hfr, hlo, hstt, hl1, hw1, hbase, htab⟩ := X
    exact lv_iconst hx hb d hv hW)
theorem nd_bipush {n : Int} {v : Int32} (d : decode cc pc = .ok (.bipush n, 2)) (hv : (Int8.ofInt n).toInt32 = v) (kk : nd_V l w y cc nL ret fr lo r h (pc + 2) L (vi v :: st)) : nd_V l w y cc nL ret fr lo r h pc L (st) := by
  exact nd_step (fun q => laS_i _ q) kk (fun E X ad H locs ls hin hW => by
    obtain ⟨p, l1, e, R, s, m, args, below, meth, c, w1, ad0, h0⟩ := E
    obtain ⟨hx, hb, hml, hown, hts, hr, hlk, hnm, hxt, hKT, hKZ, hfr, hlo, hstt, hl1, hw1, hbase, htab⟩ := X
    exact lv_bipush hx hb d hv hW)
theorem nd_sipush {n : Int} {v : Int32} (d : decode cc pc = .ok (.sipush n, 3)) (hv : (Int16.ofInt n).toInt32 = v) (kk : nd_V l w y cc nL ret fr lo r h (pc + 3) L (vi v :: st)) : nd_V l w y cc nL ret fr lo r h pc L (st) := by
  exact nd_step (fun q => laS_i _ q) kk (fun E X ad H locs ls hin hW => by
    obtain ⟨p, l1, e, R, s, m, args, below, meth, c, w1, ad0, h0⟩ := E
    obtain ⟨hx, hb, hml, hown, hts, hr, hlk, hnm, hxt, hKT, hKZ, hfr, hlo, hstt, hl1, hw1, hbase, htab⟩ := X
    exact lv_sipush hx hb d hv hW)
theorem nd_null  (d : decode cc pc = .ok (.aconst_null, 1)) (kk : nd_V l w y cc nL ret fr lo r h (pc + 1) L (vr none :: st)) : nd_V l w y cc nL ret fr lo r h pc L (st) := by
  exact nd_step (fun q => laS_c (la_null _) q) kk (fun E X ad H locs ls hin hW => by
    obtain ⟨p, l1, e, R, s, m, args, below, meth, c, w1, ad0, h0⟩ := E
    obtain ⟨hx, hb, hml, hown, hts, hr, hlk, hnm, hxt, hKT, hKZ, hfr, hlo, hstt, hl1, hw1, hbase, htab⟩ := X
    exact lv_null hx hb d hW)
theorem nd_ldc {index : Nat} {v : Int32} (d : decode cc pc = .ok (.ldc index, 2)) (hc : Cond.constant y.cls index v ∈ lw_all) (kk : nd_V l w y cc nL ret fr lo r h (pc + 2) L (vi v :: st)) : nd_V l w y cc nL ret fr lo r h pc L (st) := by
  exact nd_step (fun q => laS_i _ q) kk (fun E X ad H locs ls hin hW => by
    obtain ⟨p, l1, e, R, s, m, args, below, meth, c, w1, ad0, h0⟩ := E
    obtain ⟨hx, hb, hml, hown, hts, hr, hlk, hnm, hxt, hKT, hKZ, hfr, hlo, hstt, hl1, hw1, hbase, htab⟩ := X
    exact lv_ldc hx hb hown (hts _ hc) d hW)
theorem nd_ldcw {index : Nat} {v : Int32} (d : decode cc pc = .ok (.ldc_w index, 3)) (hc : Cond.constant y.cls index v ∈ lw_all) (kk : nd_V l w y cc nL ret fr lo r h (pc + 3) L (vi v :: st)) : nd_V l w y cc nL ret fr lo r h pc L (st) := by
  exact nd_step (fun q => laS_i _ q) kk (fun E X ad H locs ls hin hW => by
    obtain ⟨p, l1, e, R, s, m, args, below, meth, c, w1, ad0, h0⟩ := E
    obtain ⟨hx, hb, hml, hown, hts, hr, hlk, hnm, hxt, hKT, hKZ, hfr, hlo, hstt, hl1, hw1, hbase, htab⟩ := X
    exact lv_ldcw hx hb hown (hts _ hc) d hW)
theorem nd_ldc2 {index : Nat} {v : Int64} (d : decode cc pc = .ok (.ldc2_w index, 3)) (hc : Cond.constantLong y.cls index v ∈ lw_all) (kk : nd_V l w y cc nL ret fr lo r h (pc + 3) L (vl v :: st)) : nd_V l w y cc nL ret fr lo r h pc L (st) := by
  exact nd_step (fun q => laS_l _ q) kk (fun E X ad H locs ls hin hW => by
    obtain ⟨p, l1, e, R, s, m, args, below, meth, c, w1, ad0, h0⟩ := E
    obtain ⟨hx, hb, hml, hown, hts, hr, hlk, hnm, hxt, hKT, hKZ, hfr, hlo, hstt, hl1, hw1, hbase, htab⟩ := X
    exact lv_ldc2 hx hb hown (hts _ hc) d hW)
theorem nd_iadd {x z : Int32} (d : decode cc pc = .ok (.iadd, 1)) (kk : nd_V l w y cc nL ret fr lo r h (pc + 1) L (vi (x + z) :: st)) : nd_V l w y cc nL ret fr lo r h pc L (vi z :: vi x :: st) := by
  exact nd_step (fun q => laS_i _ (laS_t (laS_t q))) kk (fun E X ad H locs ls hin hW => by
    obtain ⟨p, l1, e, R, s, m, args, below, meth, c, w1, ad0, h0⟩ := E
    obtain ⟨hx, hb, hml, hown, hts, hr, hlk, hnm, hxt, hKT, hKZ, hfr, hlo, hstt, hl1, hw1, hbase, htab⟩ := X
    exact lv_iadd hx hb d hW)
theorem nd_isub {x z : Int32} (d : decode cc pc = .ok (.isub, 1)) (kk : nd_V l w y cc nL ret fr lo r h (pc + 1) L (vi (x - z) :: st)) : nd_V l w y cc nL ret fr lo r h pc L (vi z :: vi x :: st) := by
  exact nd_step (fun q => laS_i _ (laS_t (laS_t q))) kk (fun E X ad H locs ls hin hW => by
    obtain ⟨p, l1, e, R, s, m, args, below, meth, c, w1, ad0, h0⟩ := E
    obtain ⟨hx, hb, hml, hown, hts, hr, hlk, hnm, hxt, hKT, hKZ, hfr, hlo, hstt, hl1, hw1, hbase, htab⟩ := X
    exact lv_isub hx hb d hW)
theorem nd_imul {x z : Int32} (d : decode cc pc = .ok (.imul, 1)) (kk : nd_V l w y cc nL ret fr lo r h (pc + 1) L (vi (x * z) :: st)) : nd_V l w y cc nL ret fr lo r h pc L (vi z :: vi x :: st) := by
  exact nd_step (fun q => laS_i _ (laS_t (laS_t q))) kk (fun E X ad H locs ls hin hW => by
    obtain ⟨p, l1, e, R, s, m, args, below, meth, c, w1, ad0, h0⟩ := E
    obtain ⟨hx, hb, hml, hown, hts, hr, hlk, hnm, hxt, hKT, hKZ, hfr, hlo, hstt, hl1, hw1, hbase, htab⟩ := X
    exact lv_imul hx hb d hW)
theorem nd_iand {x z : Int32} (d : decode cc pc = .ok (.iand, 1)) (kk : nd_V l w y cc nL ret fr lo r h (pc + 1) L (vi (x &&& z) :: st)) : nd_V l w y cc nL ret fr lo r h pc L (vi z :: vi x :: st) := by
  exact nd_step (fun q => laS_i _ (laS_t (laS_t q))) kk (fun E X ad H locs ls hin hW => by
    obtain ⟨p, l1, e, R, s, m, args, below, meth, c, w1, ad0, h0⟩ := E
    obtain ⟨hx, hb, hml, hown, hts, hr, hlk, hnm, hxt, hKT, hKZ, hfr, hlo, hstt, hl1, hw1, hbase, htab⟩ := X
    exact lv_iand hx hb d hW)
theorem nd_ior {x z : Int32} (d : decode cc pc = .ok (.ior, 1)) (kk : nd_V l w y cc nL ret fr lo r h (pc + 1) L (vi (x ||| z) :: st)) : nd_V l w y cc nL ret fr lo r h pc L (vi z :: vi x :: st) := by
  exact nd_step (fun q => laS_i _ (laS_t (laS_t q))) kk (fun E X ad H locs ls hin hW => by
    obtain ⟨p, l1, e, R, s, m, args, below, meth, c, w1, ad0, h0⟩ := E
    obtain ⟨hx, hb, hml, hown, hts, hr, hlk, hnm, hxt, hKT, hKZ, hfr, hlo, hstt, hl1, hw1, hbase, htab⟩ := X
    exact lv_ior hx hb d hW)
theorem nd_ishl {x z : Int32} (d : decode cc pc = .ok (.ishl, 1)) (kk : nd_V l w y cc nL ret fr lo r h (pc + 1) L (vi (x <<< (z &&& 31)) :: st)) : nd_V l w y cc nL ret fr lo r h pc L (vi z :: vi x :: st) := by
  exact nd_step (fun q => laS_i _ (laS_t (laS_t q))) kk (fun E X ad H locs ls hin hW => by
    obtain ⟨p, l1, e, R, s, m, args, below, meth, c, w1, ad0, h0⟩ := E
    obtain ⟨hx, hb, hml, hown, hts, hr, hlk, hnm, hxt, hKT, hKZ, hfr, hlo, hstt, hl1, hw1, hbase, htab⟩ := X
    exact lv_ishl hx hb d hW)
theorem nd_ishr {x z : Int32} (d : decode cc pc = .ok (.ishr, 1)) (kk : nd_V l w y cc nL ret fr lo r h (pc + 1) L (vi (x >>> (z &&& 31)) :: st)) : nd_V l w y cc nL ret fr lo r h pc L (vi z :: vi x :: st) := by
  exact nd_step (fun q => laS_i _ (laS_t (laS_t q))) kk (fun E X ad H locs ls hin hW => by
    obtain ⟨p, l1, e, R, s, m, args, below, meth, c, w1, ad0, h0⟩ := E
    obtain ⟨hx, hb, hml, hown, hts, hr, hlk, hnm, hxt, hKT, hKZ, hfr, hlo, hstt, hl1, hw1, hbase, htab⟩ := X
    exact lv_ishr hx hb d hW)
theorem nd_idiv {x z : Int32} (d : decode cc pc = .ok (.idiv, 1)) (hz : ¬ z = 0) (kk : nd_V l w y cc nL ret fr lo r h (pc + 1) L (vi (x / z) :: st)) : nd_V l w y cc nL ret fr lo r h pc L (vi z :: vi x :: st) := by
  exact nd_step (fun q => laS_i _ (laS_t (laS_t q))) kk (fun E X ad H locs ls hin hW => by
    obtain ⟨p, l1, e, R, s, m, args, below, meth, c, w1, ad0, h0⟩ := E
    obtain ⟨hx, hb, hml, hown, hts, hr, hlk, hnm, hxt, hKT, hKZ, hfr, hlo, hstt, hl1, hw1, hbase, htab⟩ := X
    exact lv_idiv hx hb d hz hW)
theorem nd_irem {x z : Int32} (d : decode cc pc = .ok (.irem, 1)) (hz : ¬ z = 0) (kk : nd_V l w y cc nL ret fr lo r h (pc + 1) L (vi (x - x / z * z) :: st)) : nd_V l w y cc nL ret fr lo r h pc L (vi z :: vi x :: st) := by
  exact nd_step (fun q => laS_i _ (laS_t (laS_t q))) kk (fun E X ad H locs ls hin hW => by
    obtain ⟨p, l1, e, R, s, m, args, below, meth, c, w1, ad0, h0⟩ := E
    obtain ⟨hx, hb, hml, hown, hts, hr, hlk, hnm, hxt, hKT, hKZ, hfr, hlo, hstt, hl1, hw1, hbase, htab⟩ := X
    exact lv_irem hx hb d hz hW)
theorem nd_land {x z : Int64} (d : decode cc pc = .ok (.land, 1)) (kk : nd_V l w y cc nL ret fr lo r h (pc + 1) L (vl (x &&& z) :: st)) : nd_V l w y cc nL ret fr lo r h pc L (vl z :: vl x :: st) := by
  exact nd_step (fun q => laS_l _ (laS_t (laS_t q))) kk (fun E X ad H locs ls hin hW => by
    obtain ⟨p, l1, e, R, s, m, args, below, meth, c, w1, ad0, h0⟩ := E
    obtain ⟨hx, hb, hml, hown, hts, hr, hlk, hnm, hxt, hKT, hKZ, hfr, hlo, hstt, hl1, hw1, hbase, htab⟩ := X
    exact lv_land hx hb d hW)
theorem nd_lor {x z : Int64} (d : decode cc pc = .ok (.lor, 1)) (kk : nd_V l w y cc nL ret fr lo r h (pc + 1) L (vl (x ||| z) :: st)) : nd_V l w y cc nL ret fr lo r h pc L (vl z :: vl x :: st) := by
  exact nd_step (fun q => laS_l _ (laS_t (laS_t q))) kk (fun E X ad H locs ls hin hW => by
    obtain ⟨p, l1, e, R, s, m, args, below, meth, c, w1, ad0, h0⟩ := E
    obtain ⟨hx, hb, hml, hown, hts, hr, hlk, hnm, hxt, hKT, hKZ, hfr, hlo, hstt, hl1, hw1, hbase, htab⟩ := X
    exact lv_lor hx hb d hW)
theorem nd_lshl {x : Int64} {z : Int32} (d : decode cc pc = .ok (.lshl, 1)) (kk : nd_V l w y cc nL ret fr lo r h (pc + 1) L (vl (x <<< (z.toInt64 &&& 63)) :: st)) : nd_V l w y cc nL ret fr lo r h pc L (vi z :: vl x :: st) := by
  exact nd_step (fun q => laS_l _ (laS_t (laS_t q))) kk (fun E X ad H locs ls hin hW => by
    obtain ⟨p, l1, e, R, s, m, args, below, meth, c, w1, ad0, h0⟩ := E
    obtain ⟨hx, hb, hml, hown, hts, hr, hlk, hnm, hxt, hKT, hKZ, hfr, hlo, hstt, hl1, hw1, hbase, htab⟩ := X
    exact lv_lshl hx hb d rfl hW)
theorem nd_lshr {x : Int64} {z : Int32} (d : decode cc pc = .ok (.lshr, 1)) (kk : nd_V l w y cc nL ret fr lo r h (pc + 1) L (vl (x >>> (z.toInt64 &&& 63)) :: st)) : nd_V l w y cc nL ret fr lo r h pc L (vi z :: vl x :: st) := by
  exact nd_step (fun q => laS_l _ (laS_t (laS_t q))) kk (fun E X ad H locs ls hin hW => by
    obtain ⟨p, l1, e, R, s, m, args, below, meth, c, w1, ad0, h0⟩ := E
    obtain ⟨hx, hb, hml, hown, hts, hr, hlk, hnm, hxt, hKT, hKZ, hfr, hlo, hstt, hl1, hw1, hbase, htab⟩ := X
    exact lv_lshr hx hb d rfl hW)
theorem nd_ineg {x : Int32} (d : decode cc pc = .ok (.ineg, 1)) (kk : nd_V l w y cc nL ret fr lo r h (pc + 1) L (vi (-x) :: st)) : nd_V l w y cc nL ret fr lo r h pc L (vi x :: st) := by
  exact nd_step (fun q => laS_i _ (laS_t q)) kk (fun E X ad H locs ls hin hW => by
    obtain ⟨p, l1, e, R, s, m, args, below, meth, c, w1, ad0, h0⟩ := E
    obtain ⟨hx, hb, hml, hown, hts, hr, hlk, hnm, hxt, hKT, hKZ, hfr, hlo, hstt, hl1, hw1, hbase, htab⟩ := X
    exact lv_ineg hx hb d hW)
theorem nd_i2l {x : Int32} (d : decode cc pc = .ok (.i2l, 1)) (kk : nd_V l w y cc nL ret fr lo r h (pc + 1) L (vl x.toInt64 :: st)) : nd_V l w y cc nL ret fr lo r h pc L (vi x :: st) := by
  exact nd_step (fun q => laS_l _ (laS_t q)) kk (fun E X ad H locs ls hin hW => by
    obtain ⟨p, l1, e, R, s, m, args, below, meth, c, w1, ad0, h0⟩ := E
    obtain ⟨hx, hb, hml, hown, hts, hr, hlk, hnm, hxt, hKT, hKZ, hfr, hlo, hstt, hl1, hw1, hbase, htab⟩ := X
    exact lv_i2l hx hb d rfl hW)
theorem nd_l2i {x : Int64} (d : decode cc pc = .ok (.l2i, 1)) (kk : nd_V l w y cc nL ret fr lo r h (pc + 1) L (vi x.toInt32 :: st)) : nd_V l w y cc nL ret fr lo r h pc L (vl x :: st) := by
  exact nd_step (fun q => laS_i _ (laS_t q)) kk (fun E X ad H locs ls hin hW => by
    obtain ⟨p, l1, e, R, s, m, args, below, meth, c, w1, ad0, h0⟩ := E
    obtain ⟨hx, hb, hml, hown, hts, hr, hlk, hnm, hxt, hKT, hKZ, hfr, hlo, hstt, hl1, hw1, hbase, htab⟩ := X
    exact lv_l2i hx hb d rfl hW)
theorem nd_i2b {x : Int32} (d : decode cc pc = .ok (.i2b, 1)) (kk : nd_V l w y cc nL ret fr lo r h (pc + 1) L (vi x.toInt8.toInt32 :: st)) : nd_V l w y cc nL ret fr lo r h pc L (vi x :: st) := by
  exact nd_step (fun q => laS_i _ (laS_t q)) kk (fun E X ad H locs ls hin hW => by
    obtain ⟨p, l1, e, R, s, m, args, below, meth, c, w1, ad0, h0⟩ := E
    obtain ⟨hx, hb, hml, hown, hts, hr, hlk, hnm, hxt, hKT, hKZ, hfr, hlo, hstt, hl1, hw1, hbase, htab⟩ := X
    exact lv_i2b hx hb d rfl hW)
theorem nd_i2c {x : Int32} (d : decode cc pc = .ok (.i2c, 1)) (kk : nd_V l w y cc nL ret fr lo r h (pc + 1) L (vi (x.toUInt32 % 65536).toInt32 :: st)) : nd_V l w y cc nL ret fr lo r h pc L (vi x :: st) := by
  exact nd_step (fun q => laS_i _ (laS_t q)) kk (fun E X ad H locs ls hin hW => by
    obtain ⟨p, l1, e, R, s, m, args, below, meth, c, w1, ad0, h0⟩ := E
    obtain ⟨hx, hb, hml, hown, hts, hr, hlk, hnm, hxt, hKT, hKZ, hfr, hlo, hstt, hl1, hw1, hbase, htab⟩ := X
    exact lv_i2c hx hb d rfl hW)
theorem nd_lcmp {x z : Int64} (d : decode cc pc = .ok (.lcmp, 1)) (kk : nd_V l w y cc nL ret fr lo r h (pc + 1) L (vi (lg_cmp x z) :: st)) : nd_V l w y cc nL ret fr lo r h pc L (vl z :: vl x :: st) := by
  exact nd_step (fun q => laS_i _ (laS_t (laS_t q))) kk (fun E X ad H locs ls hin hW => by
    obtain ⟨p, l1, e, R, s, m, args, below, meth, c, w1, ad0, h0⟩ := E
    obtain ⟨hx, hb, hml, hown, hts, hr, hlk, hnm, hxt, hKT, hKZ, hfr, hlo, hstt, hl1, hw1, hbase, htab⟩ := X
    exact W.lcmp hx hb d hW)
theorem nd_dup {v : AV} (d : decode cc pc = .ok (.dup, 1)) (hv : ac v = 1) (kk : nd_V l w y cc nL ret fr lo r h (pc + 1) L (v :: v :: st)) : nd_V l w y cc nL ret fr lo r h pc L (v :: st) := by
  exact nd_step (fun q => laS_c (laS_h q) q) kk (fun E X ad H locs ls hin hW => by
    obtain ⟨p, l1, e, R, s, m, args, below, meth, c, w1, ad0, h0⟩ := E
    obtain ⟨hx, hb, hml, hown, hts, hr, hlk, hnm, hxt, hKT, hKZ, hfr, hlo, hstt, hl1, hw1, hbase, htab⟩ := X
    exact lv_dup hx hb d (by rw [tv_cat]; exact hv) hW)
theorem nd_pop {v : AV} (d : decode cc pc = .ok (.pop, 1)) (hv : ac v = 1) (kk : nd_V l w y cc nL ret fr lo r h (pc + 1) L (st)) : nd_V l w y cc nL ret fr lo r h pc L (v :: st) := by
  exact nd_step (fun q => laS_t q) kk (fun E X ad H locs ls hin hW => by
    obtain ⟨p, l1, e, R, s, m, args, below, meth, c, w1, ad0, h0⟩ := E
    obtain ⟨hx, hb, hml, hown, hts, hr, hlk, hnm, hxt, hKT, hKZ, hfr, hlo, hstt, hl1, hw1, hbase, htab⟩ := X
    exact lv_pop hx hb d (by rw [tv_cat]; exact hv) hW)
theorem nd_dup_x1 {v u : AV} (d : decode cc pc = .ok (.dup_x1, 1)) (hv : ac v = 1) (hu : ac u = 1) (kk : nd_V l w y cc nL ret fr lo r h (pc + 1) L (v :: u :: v :: st)) : nd_V l w y cc nL ret fr lo r h pc L (v :: u :: st) := by
  exact nd_step (fun q => laS_c (laS_h q) (laS_c (laS_h (laS_t q)) (laS_c (laS_h q) (laS_t (laS_t q))))) kk (fun E X ad H locs ls hin hW => by
    obtain ⟨p, l1, e, R, s, m, args, below, meth, c, w1, ad0, h0⟩ := E
    obtain ⟨hx, hb, hml, hown, hts, hr, hlk, hnm, hxt, hKT, hKZ, hfr, hlo, hstt, hl1, hw1, hbase, htab⟩ := X
    exact lv_dup_x1 hx hb d (by rw [tv_cat]; exact hv) (by rw [tv_cat]; exact hu) hW)
theorem nd_dup2 {v u : AV} (d : decode cc pc = .ok (.dup2, 1)) (hv : ac v = 1) (hu : ac u = 1) (kk : nd_V l w y cc nL ret fr lo r h (pc + 1) L (v :: u :: v :: u :: st)) : nd_V l w y cc nL ret fr lo r h pc L (v :: u :: st) := by
  exact nd_step (fun q => laS_c (laS_h q) (laS_c (laS_h (laS_t q)) q)) kk (fun E X ad H locs ls hin hW => by
    obtain ⟨p, l1, e, R, s, m, args, below, meth, c, w1, ad0, h0⟩ := E
    obtain ⟨hx, hb, hml, hown, hts, hr, hlk, hnm, hxt, hKT, hKZ, hfr, hlo, hstt, hl1, hw1, hbase, htab⟩ := X
    exact lv_dup2_11 hx hb d (by rw [tv_cat]; exact hv) (by rw [tv_cat]; exact hu) hW)
theorem nd_iload_n {k : Fin 4} {i j : Nat} {x : Int32} (d : decode cc pc = .ok (.iload_n k, 1)) (hi : (k : Nat) = i) (hj : L[j]? = some (i, vi x)) (kk : nd_V l w y cc nL ret fr lo r h (pc + 1) L (vi x :: st)) : nd_V l w y cc nL ret fr lo r h pc L st := by
  exact fun a b c0 => nd_step (fun q => laS_c (laL_at b hj) q) kk (fun E X ad H locs ls hin hW => by
    obtain ⟨p, l1, e, R, s, m, args, below, meth, c, w1, ad0, h0⟩ := E
    obtain ⟨hx, hb, hml, hown, hts, hr, hlk, hnm, hxt, hKT, hKZ, hfr, hlo, hstt, hl1, hw1, hbase, htab⟩ := X
    have hl := lv_at hin.2.2.1 j (trL_at hj)
    exact lv_iload_n hx hb d hi hl hW) a b c0
theorem nd_iload {i j : Nat} {x : Int32} (d : decode cc pc = .ok (.iload i, 2)) (hj : L[j]? = some (i, vi x)) (kk : nd_V l w y cc nL ret fr lo r h (pc + 2) L (vi x :: st)) : nd_V l w y cc nL ret fr lo r h pc L st := by
  exact fun a b c0 => nd_step (fun q => laS_c (laL_at b hj) q) kk (fun E X ad H locs ls hin hW => by
    obtain ⟨p, l1, e, R, s, m, args, below, meth, c, w1, ad0, h0⟩ := E
    obtain ⟨hx, hb, hml, hown, hts, hr, hlk, hnm, hxt, hKT, hKZ, hfr, hlo, hstt, hl1, hw1, hbase, htab⟩ := X
    have hl := lv_at hin.2.2.1 j (trL_at hj)
    exact lv_iload hx hb d hl hW) a b c0
theorem nd_lload_n {k : Fin 4} {i j : Nat} {x : Int64} (d : decode cc pc = .ok (.lload_n k, 1)) (hi : (k : Nat) = i) (hj : L[j]? = some (i, vl x)) (kk : nd_V l w y cc nL ret fr lo r h (pc + 1) L (vl x :: st)) : nd_V l w y cc nL ret fr lo r h pc L st := by
  exact fun a b c0 => nd_step (fun q => laS_c (laL_at b hj) q) kk (fun E X ad H locs ls hin hW => by
    obtain ⟨p, l1, e, R, s, m, args, below, meth, c, w1, ad0, h0⟩ := E
    obtain ⟨hx, hb, hml, hown, hts, hr, hlk, hnm, hxt, hKT, hKZ, hfr, hlo, hstt, hl1, hw1, hbase, htab⟩ := X
    have hl := lv_at hin.2.2.1 j (trL_at hj)
    exact lv_lload_n hx hb d hi hl hW) a b c0
theorem nd_lload {i j : Nat} {x : Int64} (d : decode cc pc = .ok (.lload i, 2)) (hj : L[j]? = some (i, vl x)) (kk : nd_V l w y cc nL ret fr lo r h (pc + 2) L (vl x :: st)) : nd_V l w y cc nL ret fr lo r h pc L st := by
  exact fun a b c0 => nd_step (fun q => laS_c (laL_at b hj) q) kk (fun E X ad H locs ls hin hW => by
    obtain ⟨p, l1, e, R, s, m, args, below, meth, c, w1, ad0, h0⟩ := E
    obtain ⟨hx, hb, hml, hown, hts, hr, hlk, hnm, hxt, hKT, hKZ, hfr, hlo, hstt, hl1, hw1, hbase, htab⟩ := X
    have hl := lv_at hin.2.2.1 j (trL_at hj)
    exact lv_lload hx hb d hl hW) a b c0
theorem nd_aload_n {k : Fin 4} {i j : Nat} {x : Option Nat} (d : decode cc pc = .ok (.aload_n k, 1)) (hi : (k : Nat) = i) (hj : L[j]? = some (i, vr x)) (kk : nd_V l w y cc nL ret fr lo r h (pc + 1) L (vr x :: st)) : nd_V l w y cc nL ret fr lo r h pc L st := by
  exact fun a b c0 => nd_step (fun q => laS_c (laL_at b hj) q) kk (fun E X ad H locs ls hin hW => by
    obtain ⟨p, l1, e, R, s, m, args, below, meth, c, w1, ad0, h0⟩ := E
    obtain ⟨hx, hb, hml, hown, hts, hr, hlk, hnm, hxt, hKT, hKZ, hfr, hlo, hstt, hl1, hw1, hbase, htab⟩ := X
    have hl := lv_at hin.2.2.1 j (trL_at hj)
    cases x with
    | none => exact lv_aload_nN hx hb d hi hl hW
    | some x => exact lv_aload_n hx hb d hi hl hW) a b c0
theorem nd_aload {i j : Nat} {x : Option Nat} (d : decode cc pc = .ok (.aload i, 2)) (hj : L[j]? = some (i, vr x)) (kk : nd_V l w y cc nL ret fr lo r h (pc + 2) L (vr x :: st)) : nd_V l w y cc nL ret fr lo r h pc L st := by
  exact fun a b c0 => nd_step (fun q => laS_c (laL_at b hj) q) kk (fun E X ad H locs ls hin hW => by
    obtain ⟨p, l1, e, R, s, m, args, below, meth, c, w1, ad0, h0⟩ := E
    obtain ⟨hx, hb, hml, hown, hts, hr, hlk, hnm, hxt, hKT, hKZ, hfr, hlo, hstt, hl1, hw1, hbase, htab⟩ := X
    have hl := lv_at hin.2.2.1 j (trL_at hj)
    cases x with
    | none => exact lv_aloadN hx hb d hl hW
    | some x => exact lv_aload hx hb d hl hW) a b c0
theorem nd_istore_n {k : Fin 4} {i : Nat} {x : Int32} (L' : LL) (d : decode cc pc = .ok (.istore_n k, 1)) (hi : (k : Nat) = i) (hn : i < nL) (hl : LLst L i (vi x) = L') (kk : nd_V l w y cc nL ret fr lo r h (pc + 1) L' st) : nd_V l w y cc nL ret fr lo r h pc L (vi x :: st) := by
  refine nd_storeV hl kk (fun E X ad H locs ls hin hW => ?_)
  obtain ⟨p, l1, e, R, s, m, args, below, meth, c, w1, ad0, h0⟩ := E
  obtain ⟨hx, hb, hml, hown, hts, hr, hlk, hnm, hxt, hKT, hKZ, hfr, hlo, hstt, hl1, hw1, hbase, htab⟩ := X
  have hn : i < c.maxLocals := by rw [hml]; exact hn
  exact lv_istore_n hx hb d hi hin.2.2.1 hn rfl (fun ls' hl' => hW ls' (nd_In_loc hin (by rw [← hl, ← trL_st]; exact hl')))
theorem nd_istore {i : Nat} {x : Int32} (L' : LL) (d : decode cc pc = .ok (.istore i, 2)) (hn : i < nL) (hl : LLst L i (vi x) = L') (kk : nd_V l w y cc nL ret fr lo r h (pc + 2) L' st) : nd_V l w y cc nL ret fr lo r h pc L (vi x :: st) := by
  refine nd_storeV hl kk (fun E X ad H locs ls hin hW => ?_)
  obtain ⟨p, l1, e, R, s, m, args, below, meth, c, w1, ad0, h0⟩ := E
  obtain ⟨hx, hb, hml, hown, hts, hr, hlk, hnm, hxt, hKT, hKZ, hfr, hlo, hstt, hl1, hw1, hbase, htab⟩ := X
  have hn : i < c.maxLocals := by rw [hml]; exact hn
  exact lv_istore hx hb d hin.2.2.1 hn rfl (fun ls' hl' => hW ls' (nd_In_loc hin (by rw [← hl, ← trL_st]; exact hl')))
theorem nd_astore_n {k : Fin 4} {i : Nat} {x : Option Nat} (L' : LL) (d : decode cc pc = .ok (.astore_n k, 1)) (hi : (k : Nat) = i) (hn : i < nL) (hl : LLst L i (vr x) = L') (kk : nd_V l w y cc nL ret fr lo r h (pc + 1) L' st) : nd_V l w y cc nL ret fr lo r h pc L (vr x :: st) := by
  refine nd_storeV hl kk (fun E X ad H locs ls hin hW => ?_)
  obtain ⟨p, l1, e, R, s, m, args, below, meth, c, w1, ad0, h0⟩ := E
  obtain ⟨hx, hb, hml, hown, hts, hr, hlk, hnm, hxt, hKT, hKZ, hfr, hlo, hstt, hl1, hw1, hbase, htab⟩ := X
  have hn : i < c.maxLocals := by rw [hml]; exact hn
  cases x with
  | none =>
    exact lv_astore_nN hx hb d hi hin.2.2.1 hn rfl (fun ls' hl' => hW ls' (nd_In_loc hin (by rw [← hl, ← trL_st]; exact hl')))
  | some x =>
    exact lv_astore_n hx hb d hi hin.2.2.1 hn rfl (fun ls' hl' => hW ls' (nd_In_loc hin (by rw [← hl, ← trL_st]; exact hl')))
theorem nd_astore {i : Nat} {x : Option Nat} (L' : LL) (d : decode cc pc = .ok (.astore i, 2)) (hn : i < nL) (hl : LLst L i (vr x) = L') (kk : nd_V l w y cc nL ret fr lo r h (pc + 2) L' st) : nd_V l w y cc nL ret fr lo r h pc L (vr x :: st) := by
  refine nd_storeV hl kk (fun E X ad H locs ls hin hW => ?_)
  obtain ⟨p, l1, e, R, s, m, args, below, meth, c, w1, ad0, h0⟩ := E
  obtain ⟨hx, hb, hml, hown, hts, hr, hlk, hnm, hxt, hKT, hKZ, hfr, hlo, hstt, hl1, hw1, hbase, htab⟩ := X
  have hn : i < c.maxLocals := by rw [hml]; exact hn
  cases x with
  | none =>
    exact lv_astoreN hx hb d hin.2.2.1 hn rfl (fun ls' hl' => hW ls' (nd_In_loc hin (by rw [← hl, ← trL_st]; exact hl')))
  | some x =>
    exact lv_astore hx hb d hin.2.2.1 hn rfl (fun ls' hl' => hW ls' (nd_In_loc hin (by rw [← hl, ← trL_st]; exact hl')))
theorem nd_iinc {i j : Nat} {n : Int} {x v : Int32} (L' : LL) (d : decode cc pc = .ok (.iinc i n, 3)) (hj : L[j]? = some (i, vi x)) (hv : x + Int32.ofInt n = v) (hn : i < nL) (hl : LLst L i (vi v) = L') (kk : nd_V l w y cc nL ret fr lo r h (pc + 3) L' st) : nd_V l w y cc nL ret fr lo r h pc L st := by
  intro a b c0
  have k := kk a (laL_st b (la_i _ _) hl) c0
  refine ⟨k.1, k.2.1, fun E X ad H locs ls hin => ?_⟩
  have k2 := fun ls' q => k.2.2 E X ad H locs ls' q
  obtain ⟨p, l1, e, R, s, m, args, below, meth, c, w1, ad0, h0⟩ := E
  obtain ⟨hx, hb, hml, hown, hts, hr, hlk, hnm, hxt, hKT, hKZ, hfr, hlo, hstt, hl1, hw1, hbase, htab⟩ := X
  have hn : i < c.maxLocals := by rw [hml]; exact hn
  exact lv_iinc hx hb d hin.2.2.1 (trL_at hj) hv hn rfl (fun ls' hl' => k2 ls' (nd_In_loc hin (by rw [← hl, ← trL_st]; exact hl')))
theorem nd_if_eq {x : Int32} {off : Int} {tgt : Nat} (d : decode cc pc = .ok (.ifCond .eq off, 3)) (ht : (pc : Int) + off = (tgt : Int)) (kt : x = 0 → nd_V l w y cc nL ret fr lo r h tgt L st) (kf : ¬ (x = 0) → nd_V l w y cc nL ret fr lo r h (pc + 3) L st) : nd_V l w y cc nL ret fr lo r h pc L (vi x :: st) := by
  intro a b c0
  by_cases q : x = 0
  · have k := kt q a b (laS_t c0)
    exact ⟨k.1, k.2.1, fun E X ad H locs ls hin => by
      have k2 := k.2.2 E X ad H locs ls hin
      obtain ⟨p, l1, e, R, s, m, args, below, meth, c, w1, ad0, h0⟩ := E
      obtain ⟨hx, hb, hml, hown, hts, hr, hlk, hnm, hxt, hKT, hKZ, hfr, hlo, hstt, hl1, hw1, hbase, htab⟩ := X
      exact lv_if_eq hx hb d ht (fun q => k2) (fun q' => absurd (q) q')⟩
  · have k := kf q a b (laS_t c0)
    exact ⟨k.1, k.2.1, fun E X ad H locs ls hin => by
      have k2 := k.2.2 E X ad H locs ls hin
      obtain ⟨p, l1, e, R, s, m, args, below, meth, c, w1, ad0, h0⟩ := E
      obtain ⟨hx, hb, hml, hown, hts, hr, hlk, hnm, hxt, hKT, hKZ, hfr, hlo, hstt, hl1, hw1, hbase, htab⟩ := X
      exact lv_if_eq hx hb d ht (fun q' => absurd (q') q) (fun q => k2)⟩
theorem nd_if_lt {x : Int32} {off : Int} {tgt : Nat} (d : decode cc pc = .ok (.ifCond .lt off, 3)) (ht : (pc : Int) + off = (tgt : Int)) (kt : x < 0 → nd_V l w y cc nL ret fr lo r h tgt L st) (kf : ¬ (x < 0) → nd_V l w y cc nL ret fr lo r h (pc + 3) L st) : nd_V l w y cc nL ret fr lo r h pc L (vi x :: st) := by
  intro a b c0
  by_cases q : x < 0
  · have k := kt q a b (laS_t c0)
    exact ⟨k.1, k.2.1, fun E X ad H locs ls hin => by
      have k2 := k.2.2 E X ad H locs ls hin
      obtain ⟨p, l1, e, R, s, m, args, below, meth, c, w1, ad0, h0⟩ := E
      obtain ⟨hx, hb, hml, hown, hts, hr, hlk, hnm, hxt, hKT, hKZ, hfr, hlo, hstt, hl1, hw1, hbase, htab⟩ := X
      exact lv_if_lt hx hb d ht (fun q => k2) (fun q' => absurd (q) q')⟩
  · have k := kf q a b (laS_t c0)
    exact ⟨k.1, k.2.1, fun E X ad H locs ls hin => by
      have k2 := k.2.2 E X ad H locs ls hin
      obtain ⟨p, l1, e, R, s, m, args, below, meth, c, w1, ad0, h0⟩ := E
      obtain ⟨hx, hb, hml, hown, hts, hr, hlk, hnm, hxt, hKT, hKZ, hfr, hlo, hstt, hl1, hw1, hbase, htab⟩ := X
      exact lv_if_lt hx hb d ht (fun q' => absurd (q') q) (fun q => k2)⟩
theorem nd_if_ge {x : Int32} {off : Int} {tgt : Nat} (d : decode cc pc = .ok (.ifCond .ge off, 3)) (ht : (pc : Int) + off = (tgt : Int)) (kt : 0 ≤ x → nd_V l w y cc nL ret fr lo r h tgt L st) (kf : ¬ (0 ≤ x) → nd_V l w y cc nL ret fr lo r h (pc + 3) L st) : nd_V l w y cc nL ret fr lo r h pc L (vi x :: st) := by
  intro a b c0
  by_cases q : 0 ≤ x
  · have k := kt q a b (laS_t c0)
    exact ⟨k.1, k.2.1, fun E X ad H locs ls hin => by
      have k2 := k.2.2 E X ad H locs ls hin
      obtain ⟨p, l1, e, R, s, m, args, below, meth, c, w1, ad0, h0⟩ := E
      obtain ⟨hx, hb, hml, hown, hts, hr, hlk, hnm, hxt, hKT, hKZ, hfr, hlo, hstt, hl1, hw1, hbase, htab⟩ := X
      exact lv_if_ge hx hb d ht (fun q => k2) (fun q' => absurd (q) q')⟩
  · have k := kf q a b (laS_t c0)
    exact ⟨k.1, k.2.1, fun E X ad H locs ls hin => by
      have k2 := k.2.2 E X ad H locs ls hin
      obtain ⟨p, l1, e, R, s, m, args, below, meth, c, w1, ad0, h0⟩ := E
      obtain ⟨hx, hb, hml, hown, hts, hr, hlk, hnm, hxt, hKT, hKZ, hfr, hlo, hstt, hl1, hw1, hbase, htab⟩ := X
      exact lv_if_ge hx hb d ht (fun q' => absurd (q') q) (fun q => k2)⟩
theorem nd_if_gt {x : Int32} {off : Int} {tgt : Nat} (d : decode cc pc = .ok (.ifCond .gt off, 3)) (ht : (pc : Int) + off = (tgt : Int)) (kt : 0 < x → nd_V l w y cc nL ret fr lo r h tgt L st) (kf : ¬ (0 < x) → nd_V l w y cc nL ret fr lo r h (pc + 3) L st) : nd_V l w y cc nL ret fr lo r h pc L (vi x :: st) := by
  intro a b c0
  by_cases q : 0 < x
  · have k := kt q a b (laS_t c0)
    exact ⟨k.1, k.2.1, fun E X ad H locs ls hin => by
      have k2 := k.2.2 E X ad H locs ls hin
      obtain ⟨p, l1, e, R, s, m, args, below, meth, c, w1, ad0, h0⟩ := E
      obtain ⟨hx, hb, hml, hown, hts, hr, hlk, hnm, hxt, hKT, hKZ, hfr, hlo, hstt, hl1, hw1, hbase, htab⟩ := X
      exact lv_if_gt hx hb d ht (fun q => k2) (fun q' => absurd (q) q')⟩
  · have k := kf q a b (laS_t c0)
    exact ⟨k.1, k.2.1, fun E X ad H locs ls hin => by
      have k2 := k.2.2 E X ad H locs ls hin
      obtain ⟨p, l1, e, R, s, m, args, below, meth, c, w1, ad0, h0⟩ := E
      obtain ⟨hx, hb, hml, hown, hts, hr, hlk, hnm, hxt, hKT, hKZ, hfr, hlo, hstt, hl1, hw1, hbase, htab⟩ := X
      exact lv_if_gt hx hb d ht (fun q' => absurd (q') q) (fun q => k2)⟩
theorem nd_if_le {x : Int32} {off : Int} {tgt : Nat} (d : decode cc pc = .ok (.ifCond .le off, 3)) (ht : (pc : Int) + off = (tgt : Int)) (kt : x ≤ 0 → nd_V l w y cc nL ret fr lo r h tgt L st) (kf : ¬ (x ≤ 0) → nd_V l w y cc nL ret fr lo r h (pc + 3) L st) : nd_V l w y cc nL ret fr lo r h pc L (vi x :: st) := by
  intro a b c0
  by_cases q : x ≤ 0
  · have k := kt q a b (laS_t c0)
    exact ⟨k.1, k.2.1, fun E X ad H locs ls hin => by
      have k2 := k.2.2 E X ad H locs ls hin
      obtain ⟨p, l1, e, R, s, m, args, below, meth, c, w1, ad0, h0⟩ := E
      obtain ⟨hx, hb, hml, hown, hts, hr, hlk, hnm, hxt, hKT, hKZ, hfr, hlo, hstt, hl1, hw1, hbase, htab⟩ := X
      exact lv_if_le hx hb d ht (fun q => k2) (fun q' => absurd (q) q')⟩
  · have k := kf q a b (laS_t c0)
    exact ⟨k.1, k.2.1, fun E X ad H locs ls hin => by
      have k2 := k.2.2 E X ad H locs ls hin
      obtain ⟨p, l1, e, R, s, m, args, below, meth, c, w1, ad0, h0⟩ := E
      obtain ⟨hx, hb, hml, hown, hts, hr, hlk, hnm, hxt, hKT, hKZ, hfr, hlo, hstt, hl1, hw1, hbase, htab⟩ := X
      exact lv_if_le hx hb d ht (fun q' => absurd (q') q) (fun q => k2)⟩
theorem nd_icmp_eq {x z : Int32} {off : Int} {tgt : Nat} (d : decode cc pc = .ok (.if_icmp .eq off, 3)) (ht : (pc : Int) + off = (tgt : Int)) (kt : x = z → nd_V l w y cc nL ret fr lo r h tgt L st) (kf : ¬ (x = z) → nd_V l w y cc nL ret fr lo r h (pc + 3) L st) : nd_V l w y cc nL ret fr lo r h pc L (vi z :: vi x :: st) := by
  intro a b c0
  by_cases q : x = z
  · have k := kt q a b (laS_t (laS_t c0))
    exact ⟨k.1, k.2.1, fun E X ad H locs ls hin => by
      have k2 := k.2.2 E X ad H locs ls hin
      obtain ⟨p, l1, e, R, s, m, args, below, meth, c, w1, ad0, h0⟩ := E
      obtain ⟨hx, hb, hml, hown, hts, hr, hlk, hnm, hxt, hKT, hKZ, hfr, hlo, hstt, hl1, hw1, hbase, htab⟩ := X
      exact lv_icmp_eq hx hb d ht (fun q => k2) (fun q' => absurd (q) q')⟩
  · have k := kf q a b (laS_t (laS_t c0))
    exact ⟨k.1, k.2.1, fun E X ad H locs ls hin => by
      have k2 := k.2.2 E X ad H locs ls hin
      obtain ⟨p, l1, e, R, s, m, args, below, meth, c, w1, ad0, h0⟩ := E
      obtain ⟨hx, hb, hml, hown, hts, hr, hlk, hnm, hxt, hKT, hKZ, hfr, hlo, hstt, hl1, hw1, hbase, htab⟩ := X
      exact lv_icmp_eq hx hb d ht (fun q' => absurd (q') q) (fun q => k2)⟩
theorem nd_icmp_lt {x z : Int32} {off : Int} {tgt : Nat} (d : decode cc pc = .ok (.if_icmp .lt off, 3)) (ht : (pc : Int) + off = (tgt : Int)) (kt : x < z → nd_V l w y cc nL ret fr lo r h tgt L st) (kf : ¬ (x < z) → nd_V l w y cc nL ret fr lo r h (pc + 3) L st) : nd_V l w y cc nL ret fr lo r h pc L (vi z :: vi x :: st) := by
  intro a b c0
  by_cases q : x < z
  · have k := kt q a b (laS_t (laS_t c0))
    exact ⟨k.1, k.2.1, fun E X ad H locs ls hin => by
      have k2 := k.2.2 E X ad H locs ls hin
      obtain ⟨p, l1, e, R, s, m, args, below, meth, c, w1, ad0, h0⟩ := E
      obtain ⟨hx, hb, hml, hown, hts, hr, hlk, hnm, hxt, hKT, hKZ, hfr, hlo, hstt, hl1, hw1, hbase, htab⟩ := X
      exact lv_icmp_lt hx hb d ht (fun q => k2) (fun q' => absurd (q) q')⟩
  · have k := kf q a b (laS_t (laS_t c0))
    exact ⟨k.1, k.2.1, fun E X ad H locs ls hin => by
      have k2 := k.2.2 E X ad H locs ls hin
      obtain ⟨p, l1, e, R, s, m, args, below, meth, c, w1, ad0, h0⟩ := E
      obtain ⟨hx, hb, hml, hown, hts, hr, hlk, hnm, hxt, hKT, hKZ, hfr, hlo, hstt, hl1, hw1, hbase, htab⟩ := X
      exact lv_icmp_lt hx hb d ht (fun q' => absurd (q') q) (fun q => k2)⟩
theorem nd_icmp_ge {x z : Int32} {off : Int} {tgt : Nat} (d : decode cc pc = .ok (.if_icmp .ge off, 3)) (ht : (pc : Int) + off = (tgt : Int)) (kt : z ≤ x → nd_V l w y cc nL ret fr lo r h tgt L st) (kf : ¬ (z ≤ x) → nd_V l w y cc nL ret fr lo r h (pc + 3) L st) : nd_V l w y cc nL ret fr lo r h pc L (vi z :: vi x :: st) := by
  intro a b c0
  by_cases q : z ≤ x
  · have k := kt q a b (laS_t (laS_t c0))
    exact ⟨k.1, k.2.1, fun E X ad H locs ls hin => by
      have k2 := k.2.2 E X ad H locs ls hin
      obtain ⟨p, l1, e, R, s, m, args, below, meth, c, w1, ad0, h0⟩ := E
      obtain ⟨hx, hb, hml, hown, hts, hr, hlk, hnm, hxt, hKT, hKZ, hfr, hlo, hstt, hl1, hw1, hbase, htab⟩ := X
      exact lv_icmp_ge hx hb d ht (fun q => k2) (fun q' => absurd (q) q')⟩
  · have k := kf q a b (laS_t (laS_t c0))
    exact ⟨k.1, k.2.1, fun E X ad H locs ls hin => by
      have k2 := k.2.2 E X ad H locs ls hin
      obtain ⟨p, l1, e, R, s, m, args, below, meth, c, w1, ad0, h0⟩ := E
      obtain ⟨hx, hb, hml, hown, hts, hr, hlk, hnm, hxt, hKT, hKZ, hfr, hlo, hstt, hl1, hw1, hbase, htab⟩ := X
      exact lv_icmp_ge hx hb d ht (fun q' => absurd (q') q) (fun q => k2)⟩
theorem nd_icmp_gt {x z : Int32} {off : Int} {tgt : Nat} (d : decode cc pc = .ok (.if_icmp .gt off, 3)) (ht : (pc : Int) + off = (tgt : Int)) (kt : z < x → nd_V l w y cc nL ret fr lo r h tgt L st) (kf : ¬ (z < x) → nd_V l w y cc nL ret fr lo r h (pc + 3) L st) : nd_V l w y cc nL ret fr lo r h pc L (vi z :: vi x :: st) := by
  intro a b c0
  by_cases q : z < x
  · have k := kt q a b (laS_t (laS_t c0))
    exact ⟨k.1, k.2.1, fun E X ad H locs ls hin => by
      have k2 := k.2.2 E X ad H locs ls hin
      obtain ⟨p, l1, e, R, s, m, args, below, meth, c, w1, ad0, h0⟩ := E
      obtain ⟨hx, hb, hml, hown, hts, hr, hlk, hnm, hxt, hKT, hKZ, hfr, hlo, hstt, hl1, hw1, hbase, htab⟩ := X
      exact lv_icmp_gt hx hb d ht (fun q => k2) (fun q' => absurd (q) q')⟩
  · have k := kf q a b (laS_t (laS_t c0))
    exact ⟨k.1, k.2.1, fun E X ad H locs ls hin => by
      have k2 := k.2.2 E X ad H locs ls hin
      obtain ⟨p, l1, e, R, s, m, args, below, meth, c, w1, ad0, h0⟩ := E
      obtain ⟨hx, hb, hml, hown, hts, hr, hlk, hnm, hxt, hKT, hKZ, hfr, hlo, hstt, hl1, hw1, hbase, htab⟩ := X
      exact lv_icmp_gt hx hb d ht (fun q' => absurd (q') q) (fun q => k2)⟩
theorem nd_icmp_le {x z : Int32} {off : Int} {tgt : Nat} (d : decode cc pc = .ok (.if_icmp .le off, 3)) (ht : (pc : Int) + off = (tgt : Int)) (kt : x ≤ z → nd_V l w y cc nL ret fr lo r h tgt L st) (kf : ¬ (x ≤ z) → nd_V l w y cc nL ret fr lo r h (pc + 3) L st) : nd_V l w y cc nL ret fr lo r h pc L (vi z :: vi x :: st) := by
  intro a b c0
  by_cases q : x ≤ z
  · have k := kt q a b (laS_t (laS_t c0))
    exact ⟨k.1, k.2.1, fun E X ad H locs ls hin => by
      have k2 := k.2.2 E X ad H locs ls hin
      obtain ⟨p, l1, e, R, s, m, args, below, meth, c, w1, ad0, h0⟩ := E
      obtain ⟨hx, hb, hml, hown, hts, hr, hlk, hnm, hxt, hKT, hKZ, hfr, hlo, hstt, hl1, hw1, hbase, htab⟩ := X
      exact lv_icmp_le hx hb d ht (fun q => k2) (fun q' => absurd (q) q')⟩
  · have k := kf q a b (laS_t (laS_t c0))
    exact ⟨k.1, k.2.1, fun E X ad H locs ls hin => by
      have k2 := k.2.2 E X ad H locs ls hin
      obtain ⟨p, l1, e, R, s, m, args, below, meth, c, w1, ad0, h0⟩ := E
      obtain ⟨hx, hb, hml, hown, hts, hr, hlk, hnm, hxt, hKT, hKZ, hfr, hlo, hstt, hl1, hw1, hbase, htab⟩ := X
      exact lv_icmp_le hx hb d ht (fun q' => absurd (q') q) (fun q => k2)⟩
theorem nd_if_ne {x : Int32} {off : Int} {tgt : Nat} (d : decode cc pc = .ok (.ifCond .ne off, 3)) (ht : (pc : Int) + off = (tgt : Int)) (kt : ¬ (x = 0) → nd_V l w y cc nL ret fr lo r h tgt L st) (kf : x = 0 → nd_V l w y cc nL ret fr lo r h (pc + 3) L st) : nd_V l w y cc nL ret fr lo r h pc L (vi x :: st) := by
  intro a b c0
  by_cases q : x = 0
  · have k := kf q a b (laS_t c0)
    exact ⟨k.1, k.2.1, fun E X ad H locs ls hin => by
      have k2 := k.2.2 E X ad H locs ls hin
      obtain ⟨p, l1, e, R, s, m, args, below, meth, c, w1, ad0, h0⟩ := E
      obtain ⟨hx, hb, hml, hown, hts, hr, hlk, hnm, hxt, hKT, hKZ, hfr, hlo, hstt, hl1, hw1, hbase, htab⟩ := X
      exact lv_if_ne hx hb d ht (fun q' => absurd q q') (fun q => k2)⟩
  · have k := kt q a b (laS_t c0)
    exact ⟨k.1, k.2.1, fun E X ad H locs ls hin => by
      have k2 := k.2.2 E X ad H locs ls hin
      obtain ⟨p, l1, e, R, s, m, args, below, meth, c, w1, ad0, h0⟩ := E
      obtain ⟨hx, hb, hml, hown, hts, hr, hlk, hnm, hxt, hKT, hKZ, hfr, hlo, hstt, hl1, hw1, hbase, htab⟩ := X
      exact lv_if_ne hx hb d ht (fun q => k2) (fun q' => absurd q' q)⟩
theorem nd_icmp_ne {x z : Int32} {off : Int} {tgt : Nat} (d : decode cc pc = .ok (.if_icmp .ne off, 3)) (ht : (pc : Int) + off = (tgt : Int)) (kt : ¬ (x = z) → nd_V l w y cc nL ret fr lo r h tgt L st) (kf : x = z → nd_V l w y cc nL ret fr lo r h (pc + 3) L st) : nd_V l w y cc nL ret fr lo r h pc L (vi z :: vi x :: st) := by
  intro a b c0
  by_cases q : x = z
  · have k := kf q a b (laS_t (laS_t c0))
    exact ⟨k.1, k.2.1, fun E X ad H locs ls hin => by
      have k2 := k.2.2 E X ad H locs ls hin
      obtain ⟨p, l1, e, R, s, m, args, below, meth, c, w1, ad0, h0⟩ := E
      obtain ⟨hx, hb, hml, hown, hts, hr, hlk, hnm, hxt, hKT, hKZ, hfr, hlo, hstt, hl1, hw1, hbase, htab⟩ := X
      exact lv_icmp_ne hx hb d ht (fun q' => absurd q q') (fun q => k2)⟩
  · have k := kt q a b (laS_t (laS_t c0))
    exact ⟨k.1, k.2.1, fun E X ad H locs ls hin => by
      have k2 := k.2.2 E X ad H locs ls hin
      obtain ⟨p, l1, e, R, s, m, args, below, meth, c, w1, ad0, h0⟩ := E
      obtain ⟨hx, hb, hml, hown, hts, hr, hlk, hnm, hxt, hKT, hKZ, hfr, hlo, hstt, hl1, hw1, hbase, htab⟩ := X
      exact lv_icmp_ne hx hb d ht (fun q => k2) (fun q' => absurd q' q)⟩
theorem nd_goto {off : Int} {tgt : Nat} (d : decode cc pc = .ok (.goto off, 3)) (ht : (pc : Int) + off = (tgt : Int)) (kk : nd_V l w y cc nL ret fr lo r h tgt L st) : nd_V l w y cc nL ret fr lo r h pc L st := by
  exact nd_step (fun q => q) kk (fun E X ad H locs ls hin hW => by
    obtain ⟨p, l1, e, R, s, m, args, below, meth, c, w1, ad0, h0⟩ := E
    obtain ⟨hx, hb, hml, hown, hts, hr, hlk, hnm, hxt, hKT, hKZ, hfr, hlo, hstt, hl1, hw1, hbase, htab⟩ := X
    exact lv_goto hx hb d ht hW)
theorem nd_ifnull {x : Option Nat} {off : Int} {tgt : Nat} (d : decode cc pc = .ok (.ifnull off, 3)) (ht : (pc : Int) + off = (tgt : Int)) (kn : x = none → nd_V l w y cc nL ret fr lo r h tgt L st) (ks : ∀ a, x = some a → nd_V l w y cc nL ret fr lo r h (pc + 3) L st) : nd_V l w y cc nL ret fr lo r h pc L (vr x :: st) := by
  intro a b c0
  cases x with
  | none =>
    have k := kn rfl a b (laS_t c0)
    exact ⟨k.1, k.2.1, fun E X ad H locs ls hin => by
      have k2 := k.2.2 E X ad H locs ls hin
      obtain ⟨p, l1, e, R, s, m, args, below, meth, c, w1, ad0, h0⟩ := E
      obtain ⟨hx, hb, hml, hown, hts, hr, hlk, hnm, hxt, hKT, hKZ, hfr, hlo, hstt, hl1, hw1, hbase, htab⟩ := X
      exact lv_ifnullN hx hb d ht k2⟩
  | some x =>
    have k := ks x rfl a b (laS_t c0)
    exact ⟨k.1, k.2.1, fun E X ad H locs ls hin => by
      have k2 := k.2.2 E X ad H locs ls hin
      obtain ⟨p, l1, e, R, s, m, args, below, meth, c, w1, ad0, h0⟩ := E
      obtain ⟨hx, hb, hml, hown, hts, hr, hlk, hnm, hxt, hKT, hKZ, hfr, hlo, hstt, hl1, hw1, hbase, htab⟩ := X
      exact lv_ifnull hx hb d k2⟩
theorem nd_ifnonnull {x : Option Nat} {off : Int} {tgt : Nat} (d : decode cc pc = .ok (.ifnonnull off, 3)) (ht : (pc : Int) + off = (tgt : Int)) (kn : x = none → nd_V l w y cc nL ret fr lo r h (pc + 3) L st) (ks : ∀ a, x = some a → nd_V l w y cc nL ret fr lo r h tgt L st) : nd_V l w y cc nL ret fr lo r h pc L (vr x :: st) := by
  intro a b c0
  cases x with
  | none =>
    have k := kn rfl a b (laS_t c0)
    exact ⟨k.1, k.2.1, fun E X ad H locs ls hin => by
      have k2 := k.2.2 E X ad H locs ls hin
      obtain ⟨p, l1, e, R, s, m, args, below, meth, c, w1, ad0, h0⟩ := E
      obtain ⟨hx, hb, hml, hown, hts, hr, hlk, hnm, hxt, hKT, hKZ, hfr, hlo, hstt, hl1, hw1, hbase, htab⟩ := X
      exact lv_ifnonnullN hx hb d k2⟩
  | some x =>
    have k := ks x rfl a b (laS_t c0)
    exact ⟨k.1, k.2.1, fun E X ad H locs ls hin => by
      have k2 := k.2.2 E X ad H locs ls hin
      obtain ⟨p, l1, e, R, s, m, args, below, meth, c, w1, ad0, h0⟩ := E
      obtain ⟨hx, hb, hml, hown, hts, hr, hlk, hnm, hxt, hKT, hKZ, hfr, hlo, hstt, hl1, hw1, hbase, htab⟩ := X
      exact lv_ifnonnull hx hb d ht k2⟩
theorem nd_tabIn {dflt lo' hi : Int} {offs : Array Int} {len : Nat} {x : Int32} {off : Int} {tgt : Nat} (d : decode cc pc = .ok (.tableswitch dflt lo' hi offs, len)) (h1 : ¬ x.toInt < lo') (h2 : ¬ hi < x.toInt) (ho : offs[(x.toInt - lo').toNat]? = some off) (ht : (pc : Int) + off = (tgt : Int)) (kk : nd_V l w y cc nL ret fr lo r h tgt L st) : nd_V l w y cc nL ret fr lo r h pc L (vi x :: st) := by
  exact nd_step (fun q => laS_t q) kk (fun E X ad H locs ls hin hW => by
    obtain ⟨p, l1, e, R, s, m, args, below, meth, c, w1, ad0, h0⟩ := E
    obtain ⟨hx, hb, hml, hown, hts, hr, hlk, hnm, hxt, hKT, hKZ, hfr, hlo, hstt, hl1, hw1, hbase, htab⟩ := X
    exact lv_tableIn hx hb d h1 h2 ho ht hW)
theorem nd_tabOut {dflt lo' hi : Int} {offs : Array Int} {len : Nat} {x : Int32} {tgt : Nat} (d : decode cc pc = .ok (.tableswitch dflt lo' hi offs, len)) (h1 : x.toInt < lo' ∨ hi < x.toInt) (ht : (pc : Int) + dflt = (tgt : Int)) (kk : nd_V l w y cc nL ret fr lo r h tgt L st) : nd_V l w y cc nL ret fr lo r h pc L (vi x :: st) := by
  exact nd_step (fun q => laS_t q) kk (fun E X ad H locs ls hin hW => by
    obtain ⟨p, l1, e, R, s, m, args, below, meth, c, w1, ad0, h0⟩ := E
    obtain ⟨hx, hb, hml, hown, hts, hr, hlk, hnm, hxt, hKT, hKZ, hfr, hlo, hstt, hl1, hw1, hbase, htab⟩ := X
    exact lv_tableOut hx hb d h1 ht hW)
end NdRows
