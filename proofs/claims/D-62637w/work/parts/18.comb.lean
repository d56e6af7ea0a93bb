/-! COMBINATORS of the methods' functions, and the rows of nd_V in the form that tools/dec.py prints -/
set_option maxRecDepth 100000
def ck {α : Type} (b : Bool) (x : Option α) : Option α := match b with
  | true => x
  | false => none
theorem ckE {α : Type} {b : Bool} {x : Option α} {r : α} (h : ck b x = some r) : b = true ∧ x = some r := by
  cases b with
  | true => exact ⟨rfl, h⟩
  | false => cases h
def nn {α : Type} (x : Option Nat) (k : Nat → Option α) : Option α := match x with
  | some a => k a
  | none => none
theorem nnE {α : Type} {x : Option Nat} {k : Nat → Option α} {r : α} (h : nn x k = some r) : ∃ a, x = some a ∧ k a = some r := by
  cases x with
  | none => cases h
  | some a => exact ⟨a, rfl, h⟩
def bn {α β : Type} (x : β) (k : β → Option α) : Option α := k x
theorem bnE {α β : Type} {x : β} {k : β → Option α} {r : α} (h : bn x k = some r) : ∃ y, y = x ∧ k y = some r := ⟨x, rfl, h⟩
def ca {α β : Type} (x : Option (β × Hp)) (k : β → Hp → Option α) : Option α := match x with
  | some q => k q.1 q.2
  | none => none
theorem caE {α β : Type} {x : Option (β × Hp)} {k : β → Hp → Option α} {r : α} (h : ca x k = some r) : ∃ a b, x = some (a, b) ∧ k a b = some r := by
  cases x with
  | none => cases h
  | some q => exact ⟨q.1, q.2, rfl, h⟩
def cv {α : Type} (x : Option Hp) (k : Hp → Option α) : Option α := match x with
  | some q => k q
  | none => none
theorem cvE {α : Type} {x : Option Hp} {k : Hp → Option α} {r : α} (h : cv x k = some r) : ∃ b, x = some b ∧ k b = some r := by
  cases x with
  | none => cases h
  | some q => exact ⟨q, rfl, h⟩
def oc {α : Type} (x : Option Nat) (n : Option α) (s : Nat → Option α) : Option α := match x with
  | none => n
  | some a => s a
theorem ocN {α : Type} {x : Option Nat} {n : Option α} {s : Nat → Option α} {r : α} (e : x = none) (h : oc x n s = some r) : n = some r := by subst e; exact h
theorem ocS {α : Type} {x : Option Nat} {n : Option α} {s : Nat → Option α} {r : α} {a : Nat} (e : x = some a) (h : oc x n s = some r) : s a = some r := by subst e; exact h
theorem ifp {α : Type} {c : Prop} {d : Decidable c} {a b : Option α} {r : α} (h : c) (q : (@ite _ c d a b) = some r) : a = some r := by rw [if_pos h] at q; exact q
theorem ifn {α : Type} {c : Prop} {d : Decidable c} {a b : Option α} {r : α} (h : ¬ c) (q : (@ite _ c d a b) = some r) : b = some r := by rw [if_neg h] at q; exact q
/-- a name that is free, of its kind -/
def fre (h : Hp) (n k : Nat) : Bool := !gL h n && nd_Kd n == k
theorem freE {h : Hp} {n k : Nat} (q : fre h n k = true) : gL h n = false ∧ nd_Kd n = k := by
  simp only [fre, Bool.and_eq_true, Bool.not_eq_true', beq_iff_eq] at q
  exact q
def freA (h : Hp) (n k len : Nat) : Bool := !gL h n && nd_Kd n == k && nd_Ln n == len
theorem freAE {h : Hp} {n k len : Nat} (q : freA h n k len = true) : gL h n = false ∧ nd_Kd n = k ∧ nd_Ln n = len := by
  simp only [freA, Bool.and_eq_true, Bool.not_eq_true', beq_iff_eq] at q
  exact ⟨q.1.1, q.1.2, q.2⟩
def ne0 (x : Int32) : Bool := x != 0
theorem ne0E {x : Int32} (h : ne0 x = true) : ¬ x = 0 := by simpa [ne0] using h
theorem nd_c1 {c k : Nat} (h : [c].contains k = true) : k = c := by simpa using h
theorem nd_c1' {c k : Nat} (h : k = c) : [c].contains k = true := by simp [h]
theorem nd_flO {own : String} {index : Nat} {q : vw_C} {k : Nat} (h : Cond.fieldLink own index (q.2.1 k).1 (q.2.1 k).2.1 (q.2.1 k).2.2.1 ∈ lw_all) : nd_FL own index q k := ⟨_, Or.inl h, Or.inl rfl⟩
theorem nd_flN {own host : String} {index : Nat} {q : vw_C} {k : Nat} (h : Cond.fieldLinkNest own index (q.2.1 k).1 (q.2.1 k).2.1 (q.2.1 k).2.2.1 host ∈ lw_tbl) : nd_FL own index q k := ⟨_, Or.inr ⟨_, h⟩, Or.inl rfl⟩
theorem nd_flS {own ref : String} {index : Nat} {q : vw_C} {k : Nat} (h : Cond.fieldLink own index ref (q.2.1 k).2.1 (q.2.1 k).2.2.1 ∈ lw_all) (h2 : Cond.sameField ref (q.2.1 k).1 (q.2.1 k).2.1 (q.2.1 k).2.2.1 ∈ lw_all) : nd_FL own index q k := ⟨_, Or.inl h, Or.inr h2⟩
section NdD
variable {l : Launch} {w : Wd} {r : Res} {h : Hp} {pc : Nat} {L L' : LL} {st st' st0 : List AV} {y : MethodName} {cc : ByteArray} {nL fr lo : Nat} {ret : Option FieldType}
variable {yc : MethodName} {cb : ByteArray} {nLc frc loc : Nat} {retc : Option FieldType} {as : List AV} {h' : Hp}
theorem nd_top {v u : Int32} (e : u = v) (kk : nd_V l w y cc nL ret fr lo r h pc L (vi u :: st)) : nd_V l w y cc nL ret fr lo r h pc L (vi v :: st) := e ▸ kk
theorem nd_topl {v u : Int64} (e : u = v) (kk : nd_V l w y cc nL ret fr lo r h pc L (vl u :: st)) : nd_V l w y cc nL ret fr lo r h pc L (vl v :: st) := e ▸ kk
theorem nd_topr {v u : Option Nat} (e : u = v) (kk : nd_V l w y cc nL ret fr lo r h pc L (vr u :: st)) : nd_V l w y cc nL ret fr lo r h pc L (vr v :: st) := e ▸ kk
theorem nd_hp (e : h' = h) (kk : nd_V l w y cc nL ret fr lo r h' pc L st) : nd_V l w y cc nL ret fr lo r h pc L st := e ▸ kk
variable {a ci k index f : Nat} {q : vw_C}
theorem nd_putN {v : Int32} (d : decode cc pc = .ok (.putfield index, 3)) (hka : nd_Kd a = ci) (hq : nd_cl[ci]? = some q) (hk : k < q.2.2) (hlink : nd_FL y.cls index q k) (hf : nd_fd ci k = (f, false)) (hfin : (q.2.1 k).2.2.2 = false) (hd : parseFieldDescriptor (q.2.1 k).2.2.1 = some .int) (kk : nd_V l w y cc nL ret fr lo r (sI h f a v) (pc + 3) L st) : nd_V l w y cc nL ret fr lo r h pc L (vi v :: vr (some a) :: st) :=
  nd_putI d hka hq hk hlink hf hfin hd rfl rfl kk
theorem nd_putZ {v : Int32} (hv : isB v = true) (d : decode cc pc = .ok (.putfield index, 3)) (hka : nd_Kd a = ci) (hq : nd_cl[ci]? = some q) (hk : k < q.2.2) (hlink : nd_FL y.cls index q k) (hf : nd_fd ci k = (f, false)) (hfin : (q.2.1 k).2.2.2 = false) (hd : parseFieldDescriptor (q.2.1 k).2.2.1 = some .boolean) (kk : nd_V l w y cc nL ret fr lo r (sI h f a v) (pc + 3) L st) : nd_V l w y cc nL ret fr lo r h pc L (vi v :: vr (some a) :: st) :=
  nd_putI d hka hq hk hlink hf hfin hd (isB_n hv).1 (isB_n hv).2 kk
theorem nd_putP {v : Option Nat} {ty : FieldType} (d : decode cc pc = .ok (.putfield index, 3)) (hka : nd_Kd a = ci) (hq : nd_cl[ci]? = some q) (hk : k < q.2.2) (hlink : nd_FL y.cls index q k) (hf : nd_fd ci k = (f, true)) (hfin : (q.2.1 k).2.2.2 = false) (hd : parseFieldDescriptor (q.2.1 k).2.2.1 = some ty) (href : ty.isReference = true) (hv : ∀ b, v = some b → nd_okF f (nd_Kd b) = true) (kk : nd_V l w y cc nL ret fr lo r (sP h f a v) (pc + 3) L st) : nd_V l w y cc nL ret fr lo r h pc L (vr v :: vr (some a) :: st) :=
  nd_putPg d hka hq hk hlink hf (Or.inl hfin) hd href hv kk
theorem nd_putF {v : Option Nat} {ty : FieldType} (d : decode cc pc = .ok (.putfield index, 3)) (hka : nd_Kd a = ci) (hq : nd_cl[ci]? = some q) (hk : k < q.2.2) (hlink : Cond.fieldLink y.cls index (q.2.1 k).1 (q.2.1 k).2.1 (q.2.1 k).2.2.1 ∈ lw_all) (hf : nd_fd ci k = (f, true)) (hnm : y.name = "<init>") (hdc : (q.2.1 k).1 = y.cls) (hd : parseFieldDescriptor (q.2.1 k).2.2.1 = some ty) (href : ty.isReference = true) (hv : ∀ b, v = some b → nd_okF f (nd_Kd b) = true) (kk : nd_V l w y cc nL ret fr lo r (sP h f a v) (pc + 3) L st) : nd_V l w y cc nL ret fr lo r h pc L (vr v :: vr (some a) :: st) :=
  nd_putPg d hka hq hk (nd_flO hlink) hf (Or.inr ⟨hnm, hdc, _, hlink, rfl⟩) hd href hv kk
theorem nd_newO {n : Nat} (d : decode cc pc = .ok (.new index, 3)) (hq : nd_cl[ci]? = some q) (hcl : Cond.classLink y.cls index q.1 ∈ lw_all) (hins : Cond.instantiable q.1 q.2.2 ∈ lw_all) (hini : Cond.initialized q.1 ∈ lw_all) (hn : fre h n ci = true) (kk : nd_V l w y cc nL ret fr lo r (nw h n q.2.2) (pc + 3) L (vr (some n) :: st)) : nd_V l w y cc nL ret fr lo r h pc L st :=
  nd_new d hq hcl hins hini (freE hn).2 (freE hn).1 kk
theorem nd_newI {n z : Nat} {len : Int32} (d : decode cc pc = .ok (.newarray .int, 2)) (hz : len.toNatClampNeg = z) (hlen : ¬ len < 0) (hbytes : z * 4 ≤ 536870912) (hn : freA h n 20 z = true) (kk : nd_V l w y cc nL ret fr lo r (nw h n z) (pc + 2) L (vr (some n) :: st)) : nd_V l w y cc nL ret fr lo r h pc L (vi len :: st) := by
  subst hz
  exact nd_newa (t := 0) d q192 (fun _ => rfl) (fun _ _ h => h) rfl hlen hbytes (freAE hn).2.1 (freAE hn).2.2 (freAE hn).1 kk
theorem nd_newC {n z : Nat} {len : Int32} (d : decode cc pc = .ok (.newarray .char, 2)) (hz : len.toNatClampNeg = z) (hlen : ¬ len < 0) (hbytes : z * 2 ≤ 536870912) (hn : freA h n 21 z = true) (kk : nd_V l w y cc nL ret fr lo r (nw h n z) (pc + 2) L (vr (some n) :: st)) : nd_V l w y cc nL ret fr lo r h pc L (vi len :: st) := by
  subst hz
  exact nd_newa (t := 1) d q191 (fun _ => rfl) (fun _ _ h => h) rfl hlen hbytes (freAE hn).2.1 (freAE hn).2.2 (freAE hn).1 kk
theorem nd_newZ {n z : Nat} {len : Int32} (d : decode cc pc = .ok (.newarray .boolean, 2)) (hz : len.toNatClampNeg = z) (hlen : ¬ len < 0) (hbytes : z * 1 ≤ 536870912) (hn : freA h n 22 z = true) (kk : nd_V l w y cc nL ret fr lo r (nw h n z) (pc + 2) L (vr (some n) :: st)) : nd_V l w y cc nL ret fr lo r h pc L (vi len :: st) := by
  subst hz
  exact nd_newa (t := 2) d q321 (fun _ => rfl) (fun _ _ h => h) rfl hlen hbytes (freAE hn).2.1 (freAE hn).2.2 (freAE hn).1 kk
theorem nd_newJ {n z : Nat} {len : Int32} (d : decode cc pc = .ok (.newarray .long, 2)) (hz : len.toNatClampNeg = z) (hlen : ¬ len < 0) (hbytes : z * 8 ≤ 536870912) (hn : freA h n 23 z = true) (kk : nd_V l w y cc nL ret fr lo r (nw h n z) (pc + 2) L (vr (some n) :: st)) : nd_V l w y cc nL ret fr lo r h pc L (vi len :: st) := by
  subst hz
  exact nd_newa (t := 3) d q1807 (fun _ => rfl) (fun _ _ h => h) rfl hlen hbytes (freAE hn).2.1 (freAE hn).2.2 (freAE hn).1 kk
theorem nd_newR {n z t ka : Nat} {len : Int32} {C : String} (d : decode cc pc = .ok (.anewarray index, 3)) (hcl : Cond.classLink y.cls index C ∈ lw_all) (hov : Cond.arrayOver (.object C) ∈ lw_tbl) (h4 : 4 ≤ t) (hka : ka = 20 + t) (hC : ∀ dA, (nd_tys dA)[t]? = some (dA t, .object C)) (hz : len.toNatClampNeg = z) (hlen : ¬ len < 0) (hbytes : z * 4 ≤ 536870912) (hn : freA h n ka z = true) (kk : nd_V l w y cc nL ret fr lo r (nw h n z) (pc + 3) L (vr (some n) :: st)) : nd_V l w y cc nL ret fr lo r h pc L (vi len :: st) := by
  subst hz; subst hka
  exact nd_anew d hcl hov h4 hC hlen hbytes (freAE hn).2.1 (freAE hn).2.2 (freAE hn).1 kk
variable {b : Nat} {x : MethodName} {owner : String}
theorem nd_Si {v : Int32} (st : List AV) (hCt : nd_C l w yc cb nLc retc frc loc as h (.inl (some (vi v)), h')) (hS : st0 = as.reverse ++ st) (d : decode cc pc = .ok (.invokestatic index, 3)) (hM : nd_MW yc cb nLc retc as.length) (hl : nd_ML y.cls index yc) (hst : Cond.static yc ∈ lw_all) (hfr : frc + 1 ≤ fr) (hlo : 8 + (nLc + 11) + loc ≤ lo) (hsz : (st.map ac).sum ≤ 8) (kk : nd_V l w y cc nL ret fr lo r h' (pc + 3) L (vi v :: st)) : nd_V l w y cc nL ret fr lo r h pc L st0 := by
  subst hS
  exact nd_callS hCt d hM hl hst hfr hlo hsz (fun _ hv _ => by cases hv; exact kk) (fun _ hx => by cases hx)
theorem nd_Sv (st : List AV) (hCt : nd_C l w yc cb nLc retc frc loc as h (.inl none, h')) (hS : st0 = as.reverse ++ st) (d : decode cc pc = .ok (.invokestatic index, 3)) (hM : nd_MW yc cb nLc retc as.length) (hl : nd_ML y.cls index yc) (hst : Cond.static yc ∈ lw_all) (hfr : frc + 1 ≤ fr) (hlo : 8 + (nLc + 11) + loc ≤ lo) (hsz : (st.map ac).sum ≤ 8) (kk : nd_V l w y cc nL ret fr lo r h' (pc + 3) L (st)) : nd_V l w y cc nL ret fr lo r h pc L st0 := by
  subst hS
  exact nd_callS hCt d hM hl hst hfr hlo hsz (fun _ hv _ => by cases hv; exact kk) (fun _ hx => by cases hx)
theorem nd_SvX {xx : Nat} (st : List AV) (hCt : nd_C l w yc cb nLc retc frc loc as h (.inr xx, h')) (hS : st0 = as.reverse ++ st) (d : decode cc pc = .ok (.invokestatic index, 3)) (hM : nd_MW yc cb nLc retc as.length) (hl : nd_ML y.cls index yc) (hst : Cond.static yc ∈ lw_all) (hfr : frc + 1 ≤ fr) (hlo : 8 + (nLc + 11) + loc ≤ lo) (hsz : (st.map ac).sum ≤ 8) (hno : y.cls ≠ "NotationDeskLaw") : nd_V l w y cc nL ret fr lo (.inr xx, h') h pc L st0 := by
  subst hS
  exact nd_callS hCt d hM hl hst hfr hlo hsz (fun _ hv _ => by cases hv) (fun _ hx => by cases hx; exact ⟨rfl, hno⟩)
theorem nd_Sr {v : Option Nat} (st : List AV) (hCt : nd_C l w yc cb nLc retc frc loc as h (.inl (some (vr v)), h')) (hS : st0 = as.reverse ++ st) (d : decode cc pc = .ok (.invokestatic index, 3)) (hM : nd_MW yc cb nLc retc as.length) (hl : nd_ML y.cls index yc) (hst : Cond.static yc ∈ lw_all) (hfr : frc + 1 ≤ fr) (hlo : 8 + (nLc + 11) + loc ≤ lo) (hsz : (st.map ac).sum ≤ 8) (kk : (∀ b, v = some b → nd_okT retc (nd_Kd b) = true) → nd_V l w y cc nL ret fr lo r h' (pc + 3) L (vr v :: st)) : nd_V l w y cc nL ret fr lo r h pc L st0 := by
  subst hS
  exact nd_callS hCt d hM hl hst hfr hlo hsz (fun _ hv hok => by cases hv; exact kk (fun b e => (hok.2 b (by rw [e])).2)) (fun _ hx => by cases hx)
theorem nd_Vi {v : Int32} (st : List AV) (hCt : nd_C l w yc cb nLc retc frc loc (vr (some b) :: as) h (.inl (some (vi v)), h')) (hS : st0 = as.reverse ++ vr (some b) :: st) (d : decode cc pc = .ok (.invokevirtual index, 3)) (hM : nd_MW yc cb nLc retc as.length) (hl : nd_ML y.cls index yc) (hk : nd_Kd b = ci) (hq : nd_cl[ci]? = some q) (hst : Cond.instanceMethod yc ∈ lw_all) (hse : Cond.selects q.1 yc yc ∈ lw_all) (hfr : frc + 1 ≤ fr) (hlo : 8 + (nLc + 11) + loc ≤ lo) (hsz : (st.map ac).sum ≤ 8) (kk : nd_V l w y cc nL ret fr lo r h' (pc + 3) L (vi v :: st)) : nd_V l w y cc nL ret fr lo r h pc L st0 := by
  subst hS
  exact nd_callV hCt d hk hq hM hl hst hse hfr hlo hsz (fun _ hv _ => by cases hv; exact kk) (fun _ hx => by cases hx)
theorem nd_Vv (st : List AV) (hCt : nd_C l w yc cb nLc retc frc loc (vr (some b) :: as) h (.inl none, h')) (hS : st0 = as.reverse ++ vr (some b) :: st) (d : decode cc pc = .ok (.invokevirtual index, 3)) (hM : nd_MW yc cb nLc retc as.length) (hl : nd_ML y.cls index yc) (hk : nd_Kd b = ci) (hq : nd_cl[ci]? = some q) (hst : Cond.instanceMethod yc ∈ lw_all) (hse : Cond.selects q.1 yc yc ∈ lw_all) (hfr : frc + 1 ≤ fr) (hlo : 8 + (nLc + 11) + loc ≤ lo) (hsz : (st.map ac).sum ≤ 8) (kk : nd_V l w y cc nL ret fr lo r h' (pc + 3) L (st)) : nd_V l w y cc nL ret fr lo r h pc L st0 := by
  subst hS
  exact nd_callV hCt d hk hq hM hl hst hse hfr hlo hsz (fun _ hv _ => by cases hv; exact kk) (fun _ hx => by cases hx)
theorem nd_VvX {xx : Nat} (st : List AV) (hCt : nd_C l w yc cb nLc retc frc loc (vr (some b) :: as) h (.inr xx, h')) (hS : st0 = as.reverse ++ vr (some b) :: st) (d : decode cc pc = .ok (.invokevirtual index, 3)) (hM : nd_MW yc cb nLc retc as.length) (hl : nd_ML y.cls index yc) (hk : nd_Kd b = ci) (hq : nd_cl[ci]? = some q) (hst : Cond.instanceMethod yc ∈ lw_all) (hse : Cond.selects q.1 yc yc ∈ lw_all) (hfr : frc + 1 ≤ fr) (hlo : 8 + (nLc + 11) + loc ≤ lo) (hsz : (st.map ac).sum ≤ 8) (hno : y.cls ≠ "NotationDeskLaw") : nd_V l w y cc nL ret fr lo (.inr xx, h') h pc L st0 := by
  subst hS
  exact nd_callV hCt d hk hq hM hl hst hse hfr hlo hsz (fun _ hv _ => by cases hv) (fun _ hx => by cases hx; exact ⟨rfl, hno⟩)
theorem nd_Vr {v : Option Nat} (st : List AV) (hCt : nd_C l w yc cb nLc retc frc loc (vr (some b) :: as) h (.inl (some (vr v)), h')) (hS : st0 = as.reverse ++ vr (some b) :: st) (d : decode cc pc = .ok (.invokevirtual index, 3)) (hM : nd_MW yc cb nLc retc as.length) (hl : nd_ML y.cls index yc) (hk : nd_Kd b = ci) (hq : nd_cl[ci]? = some q) (hst : Cond.instanceMethod yc ∈ lw_all) (hse : Cond.selects q.1 yc yc ∈ lw_all) (hfr : frc + 1 ≤ fr) (hlo : 8 + (nLc + 11) + loc ≤ lo) (hsz : (st.map ac).sum ≤ 8) (kk : (∀ b, v = some b → nd_okT retc (nd_Kd b) = true) → nd_V l w y cc nL ret fr lo r h' (pc + 3) L (vr v :: st)) : nd_V l w y cc nL ret fr lo r h pc L st0 := by
  subst hS
  exact nd_callV hCt d hk hq hM hl hst hse hfr hlo hsz (fun _ hv hok => by cases hv; exact kk (fun b e => (hok.2 b (by rw [e])).2)) (fun _ hx => by cases hx)
theorem nd_Ui {v : Int32} (st : List AV) (hCt : nd_C l w yc cb nLc retc frc loc (vr (some b) :: as) h (.inl (some (vi v)), h')) (hS : st0 = as.reverse ++ vr (some b) :: st) (d : decode cc pc = .ok (.invokevirtual index, 3)) (hM : nd_MW yc cb nLc retc as.length) (hl : Cond.methodLink y.cls index x ∈ lw_all) (hk : nd_Kd b = ci) (hq : nd_cl[ci]? = some q) (hsa : Cond.sameMethod x.cls owner x.name x.desc ∈ lw_all) (hdc : Cond.declares ⟨owner, x.name, x.desc⟩ ∈ lw_tbl ∨ (Cond.instanceMethod ⟨owner, x.name, x.desc⟩ ∈ lw_all ∧ ∃ b0 m0 r0, Cond.code ⟨owner, x.name, x.desc⟩ b0 m0 r0 ∈ lw_all)) (hst : Cond.instanceMethod yc ∈ lw_all) (hse : Cond.selects q.1 x yc ∈ lw_all) (how : owner ≠ "java/lang/invoke/MethodHandle" ∧ owner ≠ "java/lang/invoke/VarHandle") (hdn : (parseMethodDescriptor x.desc).map (fun d => d.parameters.length) = some as.length) (hfr : frc + 1 ≤ fr) (hlo : 8 + (nLc + 11) + loc ≤ lo) (hsz : (st.map ac).sum ≤ 8) (kk : nd_V l w y cc nL ret fr lo r h' (pc + 3) L (vi v :: st)) : nd_V l w y cc nL ret fr lo r h pc L st0 := by
  subst hS
  exact nd_callU hCt d hk hq hM hl hsa hdc hst hse how hdn hfr hlo hsz (fun _ hv _ => by cases hv; exact kk) (fun _ hx => by cases hx)
theorem nd_Uv (st : List AV) (hCt : nd_C l w yc cb nLc retc frc loc (vr (some b) :: as) h (.inl none, h')) (hS : st0 = as.reverse ++ vr (some b) :: st) (d : decode cc pc = .ok (.invokevirtual index, 3)) (hM : nd_MW yc cb nLc retc as.length) (hl : Cond.methodLink y.cls index x ∈ lw_all) (hk : nd_Kd b = ci) (hq : nd_cl[ci]? = some q) (hsa : Cond.sameMethod x.cls owner x.name x.desc ∈ lw_all) (hdc : Cond.declares ⟨owner, x.name, x.desc⟩ ∈ lw_tbl ∨ (Cond.instanceMethod ⟨owner, x.name, x.desc⟩ ∈ lw_all ∧ ∃ b0 m0 r0, Cond.code ⟨owner, x.name, x.desc⟩ b0 m0 r0 ∈ lw_all)) (hst : Cond.instanceMethod yc ∈ lw_all) (hse : Cond.selects q.1 x yc ∈ lw_all) (how : owner ≠ "java/lang/invoke/MethodHandle" ∧ owner ≠ "java/lang/invoke/VarHandle") (hdn : (parseMethodDescriptor x.desc).map (fun d => d.parameters.length) = some as.length) (hfr : frc + 1 ≤ fr) (hlo : 8 + (nLc + 11) + loc ≤ lo) (hsz : (st.map ac).sum ≤ 8) (kk : nd_V l w y cc nL ret fr lo r h' (pc + 3) L (st)) : nd_V l w y cc nL ret fr lo r h pc L st0 := by
  subst hS
  exact nd_callU hCt d hk hq hM hl hsa hdc hst hse how hdn hfr hlo hsz (fun _ hv _ => by cases hv; exact kk) (fun _ hx => by cases hx)
theorem nd_UvX {xx : Nat} (st : List AV) (hCt : nd_C l w yc cb nLc retc frc loc (vr (some b) :: as) h (.inr xx, h')) (hS : st0 = as.reverse ++ vr (some b) :: st) (d : decode cc pc = .ok (.invokevirtual index, 3)) (hM : nd_MW yc cb nLc retc as.length) (hl : Cond.methodLink y.cls index x ∈ lw_all) (hk : nd_Kd b = ci) (hq : nd_cl[ci]? = some q) (hsa : Cond.sameMethod x.cls owner x.name x.desc ∈ lw_all) (hdc : Cond.declares ⟨owner, x.name, x.desc⟩ ∈ lw_tbl ∨ (Cond.instanceMethod ⟨owner, x.name, x.desc⟩ ∈ lw_all ∧ ∃ b0 m0 r0, Cond.code ⟨owner, x.name, x.desc⟩ b0 m0 r0 ∈ lw_all)) (hst : Cond.instanceMethod yc ∈ lw_all) (hse : Cond.selects q.1 x yc ∈ lw_all) (how : owner ≠ "java/lang/invoke/MethodHandle" ∧ owner ≠ "java/lang/invoke/VarHandle") (hdn : (parseMethodDescriptor x.desc).map (fun d => d.parameters.length) = some as.length) (hfr : frc + 1 ≤ fr) (hlo : 8 + (nLc + 11) + loc ≤ lo) (hsz : (st.map ac).sum ≤ 8) (hno : y.cls ≠ "NotationDeskLaw") : nd_V l w y cc nL ret fr lo (.inr xx, h') h pc L st0 := by
  subst hS
  exact nd_callU hCt d hk hq hM hl hsa hdc hst hse how hdn hfr hlo hsz (fun _ hv _ => by cases hv) (fun _ hx => by cases hx; exact ⟨rfl, hno⟩)
theorem nd_Ur {v : Option Nat} (st : List AV) (hCt : nd_C l w yc cb nLc retc frc loc (vr (some b) :: as) h (.inl (some (vr v)), h')) (hS : st0 = as.reverse ++ vr (some b) :: st) (d : decode cc pc = .ok (.invokevirtual index, 3)) (hM : nd_MW yc cb nLc retc as.length) (hl : Cond.methodLink y.cls index x ∈ lw_all) (hk : nd_Kd b = ci) (hq : nd_cl[ci]? = some q) (hsa : Cond.sameMethod x.cls owner x.name x.desc ∈ lw_all) (hdc : Cond.declares ⟨owner, x.name, x.desc⟩ ∈ lw_tbl ∨ (Cond.instanceMethod ⟨owner, x.name, x.desc⟩ ∈ lw_all ∧ ∃ b0 m0 r0, Cond.code ⟨owner, x.name, x.desc⟩ b0 m0 r0 ∈ lw_all)) (hst : Cond.instanceMethod yc ∈ lw_all) (hse : Cond.selects q.1 x yc ∈ lw_all) (how : owner ≠ "java/lang/invoke/MethodHandle" ∧ owner ≠ "java/lang/invoke/VarHandle") (hdn : (parseMethodDescriptor x.desc).map (fun d => d.parameters.length) = some as.length) (hfr : frc + 1 ≤ fr) (hlo : 8 + (nLc + 11) + loc ≤ lo) (hsz : (st.map ac).sum ≤ 8) (kk : (∀ b, v = some b → nd_okT retc (nd_Kd b) = true) → nd_V l w y cc nL ret fr lo r h' (pc + 3) L (vr v :: st)) : nd_V l w y cc nL ret fr lo r h pc L st0 := by
  subst hS
  exact nd_callU hCt d hk hq hM hl hsa hdc hst hse how hdn hfr hlo hsz (fun _ hv hok => by cases hv; exact kk (fun b e => (hok.2 b (by rw [e])).2)) (fun _ hx => by cases hx)
theorem nd_Iv (st : List AV) (hCt : nd_C l w yc cb nLc none frc loc (vr (some b) :: as) h (.inl none, h')) (hS : st0 = as.reverse ++ vr (some b) :: st) (d : decode cc pc = .ok (.invokespecial index, 3)) (hM : nd_MW yc cb nLc none as.length) (hl : nd_ML y.cls index yc) (hst : Cond.instanceMethod yc ∈ lw_all) (hnm1 : yc.name = "<init>") (hfr : frc + 1 ≤ fr) (hlo : 8 + (nLc + 11) + loc ≤ lo) (hsz : (st.map ac).sum ≤ 8) (kk : nd_V l w y cc nL ret fr lo r h' (pc + 3) L (st)) : nd_V l w y cc nL ret fr lo r h pc L st0 := by
  subst hS
  exact nd_callI hCt d hM hl hst hnm1 hfr hlo hsz (fun _ hv _ => by cases hv; exact kk) (fun _ hx => by cases hx)
end NdD
