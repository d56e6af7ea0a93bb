/-! ROWS of nd_V: new cells, returns, a method's start -/
set_option maxRecDepth 100000
theorem tv_ag {ad ad' : Nat → Nat} {h : Hp} {v : AV} (a : la h v) (e : ∀ n, gL h n = true → ad' n = ad n) : tv ad' v = tv ad v := by
  rcases v with x | x | (_ | n)
  · rfl
  · rfl
  · rfl
  · show va_rf (some (ad' n)) = va_rf (some (ad n))
    rw [e n (a n rfl)]
theorem tvS_ag {ad ad' : Nat → Nat} {h : Hp} {st : List AV} (a : laS h st) (e : ∀ n, gL h n = true → ad' n = ad n) : st.map (tv ad') = st.map (tv ad) :=
  List.map_congr_left fun v hv => tv_ag (a v hv) e
theorem trL_ag {ad ad' : Nat → Nat} {h : Hp} {L : LL} (a : laL h L) (e : ∀ n, gL h n = true → ad' n = ad n) : trL ad' L = trL ad L :=
  List.map_congr_left fun v hv => by rw [tv_ag (a v hv) e]
theorem la_mono {h h' : Hp} (m : nd_mono h h') {v : AV} (a : la h v) : la h' v := fun n e => m.1 n (a n e)
theorem laS_mono {h h' : Hp} (m : nd_mono h h') {st : List AV} (a : laS h st) : laS h' st := fun v hv => la_mono m (a v hv)
theorem laL_mono {h h' : Hp} (m : nd_mono h h') {L : LL} (a : laL h L) : laL h' L := fun v hv => la_mono m (a v hv)
theorem nw_L (h : Hp) (n z : Nat) : gL (nw h n z) n = true := if_pos rfl
theorem nw_Lm (h : Hp) (n z x : Nat) (e : gL h x = true) : gL (nw h n z) x = true := by
  show (if x = n then true else h.1 x) = true
  split
  · rfl
  · exact e
theorem nw_mono (h : Hp) (n z : Nat) : nd_mono h (nw h n z) := ⟨fun x e => nw_Lm h n z x e, Nat.le_succ _, Nat.le_add_right _ _⟩
theorem nw_wf {h : Hp} {n z : Nat} (w : nd_wf h) : nd_wf (nw h n z) := by
  constructor
  · intro x f b hx hb
    have hb : (if x = n then none else gP h f x) = some b := hb
    by_cases e : x = n
    · rw [if_pos e] at hb; cases hb
    · rw [if_neg e] at hb
      have hx : (if x = n then true else gL h x) = true := hx
      rw [if_neg e] at hx
      exact ⟨nw_Lm h n z b (w.1 x f b hx hb).1, (w.1 x f b hx hb).2⟩
  · intro x f b hx hb
    have hb : (if x = n then none else gR h x f) = some b := hb
    by_cases e : x = n
    · rw [if_pos e] at hb; cases hb
    · rw [if_neg e] at hb
      have hx : (if x = n then true else gL h x) = true := hx
      rw [if_neg e] at hx
      exact ⟨nw_Lm h n z b (w.2 x f b hx hb).1, (w.2 x f b hx hb).2⟩
theorem nd_at.moved {w : Wd} {ad ad' : Nat → Nat} {h : Hp} {H : Heap} {n : Nat} (a : nd_at w ad h H n) (wf : nd_wf h) (hn : gL h n = true) (e : ∀ n, gL h n = true → ad' n = ad n) : nd_at w ad' h H n := by
  have hp : ∀ f, (gP h f n).map ad' = (gP h f n).map ad := by
    intro f
    cases hb : gP h f n with
    | none => rfl
    | some b => simp [e b (wf.1 n f b hn hb).1]
  have hr : ∀ j, (gR h n j).map ad' = (gR h n j).map ad := by
    intro j
    cases hb : gR h n j with
    | none => rfl
    | some b => simp [e b (wf.2 n j b hn hb).1]
  refine ⟨fun q hq => ?_, fun h20 => ?_⟩
  · rw [e n hn]
    exact (a.1 q hq).to (fun k _ => by simp only [nd_fv, hp])
  · rw [e n hn, a.2 h20]
    have : (fun j => nd_av ad h n j) = (fun j => nd_av ad' h n j) := by
      funext j
      simp only [nd_av, hr]
    rw [this]
def adn (ad : Nat → Nat) (n x : Nat) : Nat → Nat := fun q => if q = n then x else ad q
theorem nd_Rep.new {w : Wd} {ad : Nat → Nat} {h : Hp} {H : Heap} {n z : Nat} {cell : Cell} (P : nd_Rep w ad h H) (wf : nd_wf h) (hn : gL h n = false) (hn5 : n ≠ 5) (hb : w.2.2.2.1 ≤ H.size) (hK : nd_Kd n = 23 → n = 320) (hJ : ∀ x, gL h x = true → nd_Kd x = 23 → x = 320)
    (hat : nd_at w (adn ad n H.size) (nw h n z) (H.push cell) n) : nd_Rep w (adn ad n H.size) (nw h n z) (H.push cell) := by
  have ag : ∀ x, gL h x = true → adn ad n H.size x = ad x := fun x hx => if_neg (fun e => by rw [e, hn] at hx; cases hx)
  have old : ∀ x, gL (nw h n z) x = true → x ≠ n → gL h x = true := fun x hx e => by
    have hx : (if x = n then true else gL h x) = true := hx
    rw [if_neg e] at hx; exact hx
  have selfn : adn ad n H.size n = H.size := if_pos rfl
  refine ⟨fun x hx => ?_, fun x x' hx hx' e => ?_, fun h5 => ?_⟩
  · by_cases e : x = n
    · rw [e, selfn]
      refine ⟨fun _ => hb, by simp, hat⟩
    · have hx0 := old x hx e
      obtain ⟨p1, p2, p3⟩ := P.1 x hx0
      rw [ag x hx0]
      refine ⟨p1, by simp; omega, ?_⟩
      refine (p3.moved wf hx0 ag).kept ⟨fun f => if_neg e, fun f => if_neg e, fun j => if_neg e, fun j => if_neg e, fun h23 j => ?_⟩ ?_
      · have := hJ x hx0 h23
        have hne : ¬ n = 320 := fun q => e (this.trans q.symm)
        exact if_neg hne
      · rw [ag x hx0]
        exact Array.getElem?_push_lt p2 ▸ (Array.getElem?_eq_getElem p2).symm ▸ rfl
  · by_cases e1 : x = n
    · by_cases e2 : x' = n
      · rw [e1, e2]
      · rw [e1, selfn, ag x' (old x' hx' e2)] at e
        have := (P.1 x' (old x' hx' e2)).2.1
        omega
    · by_cases e2 : x' = n
      · rw [e2, selfn, ag x (old x hx e1)] at e
        have := (P.1 x (old x hx e1)).2.1
        omega
      · rw [ag x (old x hx e1), ag x' (old x' hx' e2)] at e
        exact P.2.1 x x' (old x hx e1) (old x' hx' e2) e
  · have h50 := old 5 h5 (fun q => hn5 q.symm)
    rw [ag 5 h50]
    exact P.2.2 h50
section NdN
variable {l : Launch} {w : Wd} {r : Res} {h : Hp} {pc : Nat} {L L' : LL} {st st' : List AV} {y : MethodName} {cc : ByteArray} {nL fr lo : Nat} {ret : Option FieldType}
/-- a new cell under a name: the frame behind it -/
theorem nd_InN {E : Ev} {n z : Nat} {ad : Nat → Nat} {H : Heap} {locs : List Loc} {ls : Array Slot} {cell : Cell} (hin : nd_In E r h ad H locs ls L) (wf : nd_wf h) (hL : laL h L) (hn : gL h n = false) (hn5 : n ≠ 5) (hb : E.2.2.2.2.2.2.2.2.2.2.1.2.2.2.1 ≤ E.2.2.2.2.1.heap.size)
    (hat : nd_at E.2.2.2.2.2.2.2.2.2.2.1 (adn ad n H.size) (nw h n z) (H.push cell) n) : nd_In E r (nw h n z) (adn ad n H.size) (H.push cell) locs ls L := by
  obtain ⟨p, l1, e, R, s, m, args, below, meth, c, w1, ad0, h0⟩ := E
  obtain ⟨i1, i2, i3, i4, i5, i6, i7, i8⟩ := hin
  have ag : ∀ x, gL h x = true → adn ad n H.size x = ad x := fun x hx => if_neg (fun e => by rw [e, hn] at hx; cases hx)
  refine ⟨i1.new wf hn hn5 (Nat.le_trans hb i2.1) (nd_K23 n) (fun x _ => nd_K23 x) hat, ⟨by have := i2.1; simp; omega, fun q h1 h2 => ?_, i2.2.2⟩, by rw [trL_ag hL ag]; exact i3, fun x hx => ⟨nw_Lm h n z x (i4 x hx).1, by rw [ag x (i4 x hx).1]; exact (i4 x hx).2⟩, i5, i6, Nat.le_trans i7 (Nat.le_succ _), Nat.le_trans i8 (Nat.le_add_right _ _)⟩
  have hlt : q < H.size := Nat.lt_of_lt_of_le h1 i2.1
  rw [← i2.2.1 q h1 h2]
  simp [Array.getElem?_push, Nat.ne_of_lt hlt]
theorem nd_new {n ci index : Nat} {q : vw_C} (d : decode cc pc = .ok (.new index, 3)) (hq : nd_cl[ci]? = some q) (hcl : Cond.classLink y.cls index q.1 ∈ lw_all) (hins : Cond.instantiable q.1 q.2.2 ∈ lw_all) (hini : Cond.initialized q.1 ∈ lw_all)
    (hk : nd_Kd n = ci) (hn : gL h n = false) (kk : nd_V l w y cc nL ret fr lo r (nw h n q.2.2) (pc + 3) L (vr (some n) :: st)) : nd_V l w y cc nL ret fr lo r h pc L st := by
  intro wf a1 a2
  have hm := nw_mono h n q.2.2
  have K := kk (nw_wf wf) (laL_mono hm a1) (laS_c (fun x e => by cases e; exact nw_L h n _) (laS_mono hm a2))
  refine ⟨hm.tr K.1, K.2.1, fun E X ad H locs ls hin => ?_⟩
  have key : ∀ cell, nd_at E.2.2.2.2.2.2.2.2.2.2.1 (adn ad n H.size) (nw h n q.2.2) (H.push cell) n → nd_In E r (nw h n q.2.2) (adn ad n H.size) (H.push cell) locs ls L := fun cell hat => nd_InN hin wf a1 hn (fun q9 => by rw [q9] at hk; exact absurd (nd_lt14 hq) (by rw [← hk]; decide)) (by obtain ⟨p, l1, e, R, s, m, args, below, meth, c, w1, ad0, h0⟩ := E; exact X.2.2.2.2.2.2.2.2.2.2.2.2.2.2.2.2.1) hat
  have kw := fun cell hat => K.2.2 E X _ _ locs ls (key cell hat)
  have ag : ∀ x, gL h x = true → adn ad n H.size x = ad x := fun x hx => if_neg (fun e => by rw [e, hn] at hx; cases hx)
  have hst : (vr (some n) :: st).map (tv (adn ad n H.size)) = .ref H.size :: st.map (tv ad) := by
    rw [List.map_cons, tvS_ag a2 ag]
    show Value.ref (adn ad n H.size n) :: _ = _
    rw [show adn ad n H.size n = H.size from if_pos rfl]
  rw [hst] at kw
  have hm1 := K.1
  obtain ⟨p, l1, e, R, s, m, args, below, meth, c, w1, ad0, h0⟩ := E
  obtain ⟨hx, hb, hml, hown, hts, hr, hlk, hnm, hxt, hKT, hKZ, hfr, hlo, hstt, hl1, hw1, hbase, htab⟩ := X
  obtain ⟨i1, i2, i3, i4, i5, i6, i7, i8⟩ := hin
  have c1 : gC h + 1 ≤ gC r.2 := hm1.2.1
  have c2 : gZ h + q.2.2 ≤ gZ r.2 := hm1.2.2
  refine W.newc hx hb hown (hts _ hcl) (hts _ hins) (hts _ hini) rfl d (by omega) (by omega) fun cC kC h1 h2 h3 h4 => ?_
  have e1 : gC h - gC h0 + 1 = gC (nw h n q.2.2) - gC h0 := by show _ = gC h + 1 - gC h0; omega
  have e2 : gZ h - gZ h0 + q.2.2 = gZ (nw h n q.2.2) - gZ h0 := by show _ = gZ h + q.2.2 - gZ h0; omega
  rw [e1, e2]
  refine kw _ ⟨fun q' hq' => ?_, fun h20 => absurd (nd_lt14 hq) (by omega)⟩
  rw [hk] at hq'
  cases hq.symm.trans hq'
  obtain ⟨ty, hty, hdef⟩ := nd_clty ci q hq
  have hKn := hKT.1.1 ci q hq
  have hcC : cC = w1.1 ci := Option.some.inj (h1.symm.trans hKn.2.1)
  subst hcC
  have hob := u_born (H := H.push { cls := w1.1 ci, slots := kC.instanceTypes.map defaultValue, vm := .none }) (o := H.size) ty hts (nd_clin ci q hq) hKn h2 (by simp [blank]) hty
  rw [hk, show adn ad n H.size n = H.size from if_pos rfl]
  refine hob.to (fun k hk => ?_)
  rw [hdef k hk]
  simp only [nd_fv]
  by_cases hb2 : (nd_fd ci k).2 = true
  · rw [if_pos hb2, if_pos hb2]
    show _ = va_rf ((if n = n then none else _ : Option Nat).map _)
    rw [if_pos rfl]; rfl
  · rw [if_neg hb2, if_neg hb2]
    show _ = Value.int (if n = n then 0 else _)
    rw [if_pos rfl]
/-- a new array -/
theorem nd_newaV {n t : Nat} {len : Nat} {ad : Nat → Nat} {h : Hp} {H : Heap} {w : Wd} {x : Value} (hk : nd_Kd n = 20 + t) (hl : nd_Ln n = len) (hx : x = if t = 3 then .long 0 else if 4 ≤ t then .null else .int 0) (h3 : nd_Kd n = 23 → n = 320) : nd_at w (adn ad n H.size) (nw h n len) (H.push { cls := w.2.2.1 t, slots := Array.replicate len x, vm := .none }) n := by
  refine ⟨fun q' hq' => absurd (nd_lt14 hq') (by omega), fun h20 => ?_⟩
  rw [show adn ad n H.size n = H.size from if_pos rfl, arrV_new, show nd_Kd n - 20 = t by omega, hl]
  simp only [Array.getElem?_push_size]
  congr 2
  funext j
  rw [hx]
  simp only [nd_av, hk]
  by_cases e3 : t = 3
  · have : n = 320 := h3 (by omega)
    simp only [e3, if_true]
    show Value.long 0 = Value.long (if n = 320 then 0 else _)
    rw [if_pos this]
  · rw [if_neg e3, if_neg (show ¬ 20 + t = 23 by omega)]
    by_cases e4 : 4 ≤ t
    · rw [if_pos e4, if_pos (show 24 ≤ 20 + t by omega)]
      show _ = va_rf ((if n = n then none else _ : Option Nat).map _)
      rw [if_pos rfl]; rfl
    · rw [if_neg e4, if_neg (show ¬ 24 ≤ 20 + t by omega)]
      show _ = Value.int (if n = n then 0 else _)
      rw [if_pos rfl]
theorem nd_newa {n t : Nat} {len : Int32} {atype : ArrayType} (d : decode cc pc = .ok (.newarray atype, 2)) (hac : Cond.arrayClass (newarray.typeOf atype) ∈ lw_all) (hC : ∀ dA, (nd_tys dA)[t]? = some (dA t, newarray.typeOf atype)) (hra : ∀ U cA, va_RA U cA (newarray.typeOf atype) → U.vm.findClass ("[" ++ (newarray.typeOf atype).toString) = some cA)
    (hdef : defaultValue (newarray.typeOf atype) = if t = 3 then .long 0 else if 4 ≤ t then .null else .int 0) (hlen : ¬ len < 0) (hbytes : len.toNatClampNeg * componentBytes (newarray.typeOf atype) ≤ 536870912)
    (hk : nd_Kd n = 20 + t) (hl : nd_Ln n = len.toNatClampNeg) (hn : gL h n = false) (kk : nd_V l w y cc nL ret fr lo r (nw h n len.toNatClampNeg) (pc + 2) L (vr (some n) :: st)) : nd_V l w y cc nL ret fr lo r h pc L (vi len :: st) := by
  intro wf a1 a2
  have a2 := laS_t a2
  have hm := nw_mono h n len.toNatClampNeg
  have K := kk (nw_wf wf) (laL_mono hm a1) (laS_c (fun x e => by cases e; exact nw_L h n _) (laS_mono hm a2))
  refine ⟨hm.tr K.1, K.2.1, fun E X ad H locs ls hin => ?_⟩
  have kw := fun cell hat => K.2.2 E X _ _ locs ls (nd_InN (cell := cell) hin wf a1 hn (fun q9 => by rw [q9] at hk; have hk2 : (16 : Nat) = 20 + t := hk; omega) (by obtain ⟨p, l1, e, R, s, m, args, below, meth, c, w1, ad0, h0⟩ := E; exact X.2.2.2.2.2.2.2.2.2.2.2.2.2.2.2.2.1) hat)
  have ag : ∀ x, gL h x = true → adn ad n H.size x = ad x := fun x hx => if_neg (fun e => by rw [e, hn] at hx; cases hx)
  have hst : (vr (some n) :: st).map (tv (adn ad n H.size)) = .ref H.size :: st.map (tv ad) := by
    rw [List.map_cons, tvS_ag a2 ag]
    show Value.ref (adn ad n H.size n) :: _ = _
    rw [show adn ad n H.size n = H.size from if_pos rfl]
  rw [hst] at kw
  have hm1 := K.1
  obtain ⟨p, l1, e, R, s, m, args, below, meth, c, w1, ad0, h0⟩ := E
  obtain ⟨hx, hb, hml, hown, hts, hr, hlk, hnm, hxt, hKT, hKZ, hfr, hlo, hstt, hl1, hw1, hbase, htab⟩ := X
  obtain ⟨i1, i2, i3, i4, i5, i6, i7, i8⟩ := hin
  have c1 : gC h + 1 ≤ gC r.2 := hm1.2.1
  have c2 : gZ h + len.toNatClampNeg ≤ gZ r.2 := hm1.2.2
  refine W.newa hx hb (hts _ hac) rfl d rfl hlen hbytes (by omega) (by omega) fun cA kA comp h1 h2 h3 => ?_
  have e1 : gC h - gC h0 + 1 = gC (nw h n len.toNatClampNeg) - gC h0 := by show _ = gC h + 1 - gC h0; omega
  have e2 : gZ h - gZ h0 + len.toNatClampNeg = gZ (nw h n len.toNatClampNeg) - gZ h0 := by show _ = gZ h + len.toNatClampNeg - gZ h0; omega
  rw [e1, e2]
  have hcA : cA = w1.2.2.1 t := Option.some.inj (h1.symm.trans (hra _ _ (nd_tyk hKT t hC).2))
  subst hcA
  exact kw _ (nd_newaV hk hl hdef (nd_K23 n))
theorem nd_anew {n t index : Nat} {len : Int32} {C : String} (d : decode cc pc = .ok (.anewarray index, 3)) (hcl : Cond.classLink y.cls index C ∈ lw_all) (hov : Cond.arrayOver (.object C) ∈ lw_tbl) (h4 : 4 ≤ t) (hC : ∀ dA, (nd_tys dA)[t]? = some (dA t, .object C))
    (hlen : ¬ len < 0) (hbytes : len.toNatClampNeg * 4 ≤ 536870912) (hk : nd_Kd n = 20 + t) (hl : nd_Ln n = len.toNatClampNeg) (hn : gL h n = false) (kk : nd_V l w y cc nL ret fr lo r (nw h n len.toNatClampNeg) (pc + 3) L (vr (some n) :: st)) : nd_V l w y cc nL ret fr lo r h pc L (vi len :: st) := by
  intro wf a1 a2
  have a2 := laS_t a2
  have hm := nw_mono h n len.toNatClampNeg
  have K := kk (nw_wf wf) (laL_mono hm a1) (laS_c (fun x e => by cases e; exact nw_L h n _) (laS_mono hm a2))
  refine ⟨hm.tr K.1, K.2.1, fun E X ad H locs ls hin => ?_⟩
  have kw := fun cell hat => K.2.2 E X _ _ locs ls (nd_InN (cell := cell) hin wf a1 hn (fun q9 => by rw [q9] at hk; have hk2 : (16 : Nat) = 20 + t := hk; omega) (by obtain ⟨p, l1, e, R, s, m, args, below, meth, c, w1, ad0, h0⟩ := E; exact X.2.2.2.2.2.2.2.2.2.2.2.2.2.2.2.2.1) hat)
  have ag : ∀ x, gL h x = true → adn ad n H.size x = ad x := fun x hx => if_neg (fun e => by rw [e, hn] at hx; cases hx)
  have hst : (vr (some n) :: st).map (tv (adn ad n H.size)) = .ref H.size :: st.map (tv ad) := by
    rw [List.map_cons, tvS_ag a2 ag]
    show Value.ref (adn ad n H.size n) :: _ = _
    rw [show adn ad n H.size n = H.size from if_pos rfl]
  rw [hst] at kw
  have hm1 := K.1
  obtain ⟨p, l1, e, R, s, m, args, below, meth, c, w1, ad0, h0⟩ := E
  obtain ⟨hx, hb, hml, hown, hts, hr, hlk, hnm, hxt, hKT, hKZ, hfr, hlo, hstt, hl1, hw1, hbase, htab⟩ := X
  obtain ⟨i1, i2, i3, i4, i5, i6, i7, i8⟩ := hin
  have c1 : gC h + 1 ≤ gC r.2 := hm1.2.1
  have c2 : gZ h + len.toNatClampNeg ≤ gZ r.2 := hm1.2.2
  refine W.anew hx hb hown (hts _ hcl) (va_AO.use (hKT.2.2.2.2.1 _ hov)) rfl d rfl hlen hbytes (by omega) (by omega) fun cA kA comp h1 h2 h3 h3' => ?_
  have e1 : gC h - gC h0 + 1 = gC (nw h n len.toNatClampNeg) - gC h0 := by show _ = gC h + 1 - gC h0; omega
  have e2 : gZ h - gZ h0 + len.toNatClampNeg = gZ (nw h n len.toNatClampNeg) - gZ h0 := by show _ = gZ h + len.toNatClampNeg - gZ h0; omega
  rw [e1, e2]
  obtain ⟨kA', comp', k1, k2, k3, k4⟩ := (nd_tyk hKT t hC).2
  have hcA : cA = w1.2.2.1 t := Option.some.inj (h1.symm.trans k4)
  subst hcA
  exact kw _ (nd_newaV hk hl (by rw [if_neg (by omega), if_pos h4]) (nd_K23 n))
/-- Object.<init> -/
theorem nd_obj {a idx : Nat} (d : decode cc pc = .ok (.invokespecial idx, 3)) (hl : Cond.methodLink y.cls idx Lib.objectInit ∈ lw_all) (hi : Cond.instanceMethod Lib.objectInit ∈ lw_all) (hc : Cond.code Lib.objectInit ⟨#[0xb1]⟩ 1 none ∈ lw_all) (h1 : 1 ≤ fr) (h2 : (st.map ac).sum + 12 ≤ lo) (kk : nd_V l w y cc nL ret fr lo r h (pc + 3) L st) : nd_V l w y cc nL ret fr lo r h pc L (vr (some a) :: st) := by
  refine nd_step (fun q => laS_t q) kk (fun E X ad H locs ls hin hW => ?_)
  obtain ⟨p, l1, e, R, s, m, args, below, meth, c, w1, ad0, h0⟩ := E
  obtain ⟨hx, hb, hml, hown, hts, hr, hlk, hnm, hxt, hKT, hKZ, hfr, hlo, hstt, hl1, hw1, hbase, htab⟩ := X
  refine W.objInit hx hb hown (hts _ hl) (hts _ hi) (hts _ hc) rfl hin.2.2.1.1 rfl d (Nat.le_trans h1 hfr) ?_ hW
  show 2 * 0 + ((st.map (tv ad)).map fun v => v.category).sum + 12 ≤ R.locals
  refine Nat.le_trans ?_ hlo
  rw [List.map_map, show ((fun v => Value.category v) ∘ tv ad) = ac by funext v; exact tv_cat ad v]
  omega
theorem nd_end {v : Option AV} {t : Option FieldType} (hv : ∀ b, v = some (vr (some b)) → nd_okT t (nd_Kd b) = true) (hl : ∀ x, v = some x → la h x) (wf : nd_wf h) : nd_rok t (.inl v, h) := ⟨wf, fun b e => by
  cases e
  exact ⟨hl _ rfl b rfl, hv b rfl⟩⟩
theorem nd_endQ {p : Program} {l : Launch} {e : Env} {R : Room} {s : State} {m : MethodId} {args : Array Value} {below : List Frame} {meth : Method} {c : Code} {w : Wd} {ad0 : Nat → Nat} {h0 : Hp} {ad : Nat → Nat} {H : Heap} {locs : List Loc} {ls : Array Slot} {v : Option AV} {r : Res}
    (hr : r = (.inl v, h)) (hin : nd_In (p, l, e, R, s, m, args, below, meth, c, w, ad0, h0) r h ad H locs ls L) (t : State) (ht : t.heap = H) (hW : s.WarmedH t.vm) : nd_Qc w ad0 h0 r args s (.returned (v.map (tv ad))) t := by
  obtain ⟨i1, i2, i3, i4, i5, i6, i7, i8⟩ := hin
  subst hr
  exact ⟨ad, v, rfl, rfl, by rw [ht]; exact i1, fun n hn => (i4 n hn).2, i2.F ht⟩
theorem nd_vret (d : decode cc pc = .ok (.return_, 1)) : nd_V l w y cc nL none fr lo (.inl none, h) h pc L [] := by
  intro wf a1 a2
  refine ⟨nd_mono.rf h, nd_end (fun b q => by cases q) (fun x q => by cases q) wf, fun E X ad H locs ls hin => ?_⟩
  obtain ⟨p, l1, e, R, s, m, args, below, meth, c, w1, ad0, h0⟩ := E
  obtain ⟨hx, hb, hml, hown, hts, hr, hlk, hnm, hxt, hKT, hKZ, hfr, hlo, hstt, hl1, hw1, hbase, htab⟩ := X
  exact vx_ret (W.vret hx hb hr (fun t ht hW => nd_endQ rfl hin t ht hW) hin.2.1.2.2 d hlk)
theorem nd_iret {v : Int32} (d : decode cc pc = .ok (.ireturn, 1)) : nd_V l w y cc nL (some .int) fr lo (.inl (some (vi v)), h) h pc L [vi v] := by
  intro wf a1 a2
  refine ⟨nd_mono.rf h, nd_end (fun b q => by cases q) (fun x q => by cases q; exact la_i _ _) wf, fun E X ad H locs ls hin => ?_⟩
  obtain ⟨p, l1, e, R, s, m, args, below, meth, c, w1, ad0, h0⟩ := E
  obtain ⟨hx, hb, hml, hown, hts, hr, hlk, hnm, hxt, hKT, hKZ, hfr, hlo, hstt, hl1, hw1, hbase, htab⟩ := X
  exact vx_ret (W.iret hx hb hr (fun t ht hW => nd_endQ rfl hin t ht hW) hin.2.1.2.2 d hlk)
theorem nd_zret {v : Int32} (hv : isB v = true) (d : decode cc pc = .ok (.ireturn, 1)) : nd_V l w y cc nL (some .boolean) fr lo (.inl (some (vi v)), h) h pc L [vi v] := by
  intro wf a1 a2
  refine ⟨nd_mono.rf h, nd_end (fun b q => by cases q) (fun x q => by cases q; exact la_i _ _) wf, fun E X ad H locs ls hin => ?_⟩
  obtain ⟨p, l1, e, R, s, m, args, below, meth, c, w1, ad0, h0⟩ := E
  obtain ⟨hx, hb, hml, hown, hts, hr, hlk, hnm, hxt, hKT, hKZ, hfr, hlo, hstt, hl1, hw1, hbase, htab⟩ := X
  exact vx_ret (W.zret hx hb hr (isB_n hv).1 (fun t ht hW => nd_endQ rfl hin t ht hW) hin.2.1.2.2 d hlk)
theorem nd_aret {v : Option Nat} {C : String} (hv : ∀ b, v = some b → nd_okT (some (.object C)) (nd_Kd b) = true) (d : decode cc pc = .ok (.areturn, 1)) : nd_V l w y cc nL (some (.object C)) fr lo (.inl (some (vr v)), h) h pc L [vr v] := by
  intro wf a1 a2
  refine ⟨nd_mono.rf h, nd_end (fun b q => hv b (Sum.inr.inj (Sum.inr.inj (Option.some.inj q)))) (fun x q => by cases q; exact laS_h a2) wf, fun E X ad H locs ls hin => ?_⟩
  obtain ⟨p, l1, e, R, s, m, args, below, meth, c, w1, ad0, h0⟩ := E
  obtain ⟨hx, hb, hml, hown, hts, hr, hlk, hnm, hxt, hKT, hKZ, hfr, hlo, hstt, hl1, hw1, hbase, htab⟩ := X
  refine vx_ret (W.aret hx hb hr (Or.inl ⟨C, rfl⟩) ?_ (fun t ht hW => nd_endQ rfl hin t ht hW) hin.2.1.2.2 d hlk)
  cases v with
  | none => exact Or.inl rfl
  | some b => exact Or.inr ⟨ad b, rfl⟩
end NdN
