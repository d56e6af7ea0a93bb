/-! THE BASE: the abstract heap; what it says of a heap of the machine; the judgement nd_V -/
set_option maxRecDepth 100000
/-- alive names; int fields (id, name); reference fields; int arrays (name, place); reference arrays; the law's long array; cells and slots made -/
abbrev Hp : Type := (Nat → Bool) × (Nat → Nat → Int32) × (Nat → Nat → Option Nat) × (Nat → Nat → Int32) × (Nat → Nat → Option Nat) × (Nat → Int64) × Nat × Nat
def gL (h : Hp) : Nat → Bool := h.1
def gI (h : Hp) : Nat → Nat → Int32 := h.2.1
def gP (h : Hp) : Nat → Nat → Option Nat := h.2.2.1
def gA (h : Hp) : Nat → Nat → Int32 := h.2.2.2.1
def gR (h : Hp) : Nat → Nat → Option Nat := h.2.2.2.2.1
def gJ (h : Hp) : Nat → Int64 := h.2.2.2.2.2.1
def gC (h : Hp) : Nat := h.2.2.2.2.2.2.1
def gZ (h : Hp) : Nat := h.2.2.2.2.2.2.2
def u2 {α : Type} (f : Nat → Nat → α) (a k : Nat) (v : α) : Nat → Nat → α := fun x y => if x = a ∧ y = k then v else f x y
theorem u2_s {α : Type} (f : Nat → Nat → α) (a k : Nat) (v : α) : u2 f a k v a k = v := by simp [u2]
theorem u2_n {α : Type} (f : Nat → Nat → α) {a k x y : Nat} (v : α) (h : ¬ (x = a ∧ y = k)) : u2 f a k v x y = f x y := by simp only [u2, if_neg h]
def sI (h : Hp) (f a : Nat) (v : Int32) : Hp := (h.1, u2 h.2.1 f a v, h.2.2)
def sP (h : Hp) (f a : Nat) (v : Option Nat) : Hp := (h.1, h.2.1, u2 h.2.2.1 f a v, h.2.2.2)
def sA (h : Hp) (a j : Nat) (v : Int32) : Hp := (h.1, h.2.1, h.2.2.1, u2 h.2.2.2.1 a j v, h.2.2.2.2)
def sR (h : Hp) (a j : Nat) (v : Option Nat) : Hp := (h.1, h.2.1, h.2.2.1, h.2.2.2.1, u2 h.2.2.2.2.1 a j v, h.2.2.2.2.2)
def sJ (h : Hp) (j : Nat) (v : Int64) : Hp := (h.1, h.2.1, h.2.2.1, h.2.2.2.1, h.2.2.2.2.1, (fun i => if i = j then v else h.2.2.2.2.2.1 i), h.2.2.2.2.2.2)
/-- a cell is made -/
def nw (h : Hp) (n z : Nat) : Hp :=
  ((fun x => if x = n then true else h.1 x), (fun f x => if x = n then 0 else h.2.1 f x), (fun f x => if x = n then none else h.2.2.1 f x), (fun x j => if x = n then 0 else h.2.2.2.1 x j),
   (fun x j => if x = n then none else h.2.2.2.2.1 x j), (fun j => if n = 320 then 0 else h.2.2.2.2.2.1 j), h.2.2.2.2.2.2.1 + 1, h.2.2.2.2.2.2.2 + z)
/-- cells that have no name (a thrown object) -/
def nx (h : Hp) (z : Nat) : Hp := (h.1, h.2.1, h.2.2.1, h.2.2.2.1, h.2.2.2.2.1, h.2.2.2.2.2.1, h.2.2.2.2.2.2.1 + 1, h.2.2.2.2.2.2.2 + z)
/-- values: ints, longs, references by name -/
abbrev AV : Type := Int32 ⊕ Int64 ⊕ Option Nat
abbrev vi (x : Int32) : AV := .inl x
abbrev vl (x : Int64) : AV := .inr (.inl x)
abbrev vr (x : Option Nat) : AV := .inr (.inr x)
def tv (ad : Nat → Nat) (v : AV) : Value := match v with
  | .inl x => .int x
  | .inr (.inl x) => .long x
  | .inr (.inr r) => va_rf (r.map ad)
def ac (v : AV) : Nat := match v with
  | .inl _ => 1
  | .inr (.inl _) => 2
  | .inr (.inr _) => 1
theorem tv_cat (ad : Nat → Nat) (v : AV) : (tv ad v).category = ac v := by
  rcases v with x | x | (_ | x) <;> rfl
def la (h : Hp) (v : AV) : Prop := ∀ n, v = vr (some n) → gL h n = true
abbrev LL : Type := List (Nat × AV)
def trL (ad : Nat → Nat) (L : LL) : List (Nat × Value) := L.map (fun q => (q.1, tv ad q.2))
def laL (h : Hp) (L : LL) : Prop := ∀ q ∈ L, la h q.2
def laS (h : Hp) (st : List AV) : Prop := ∀ v ∈ st, la h v
abbrev Res : Type := (Option AV ⊕ Nat) × Hp
/-- class numbers, slots, array classes, the first address that is ours; the script: its address, length, ints -/
abbrev Wd : Type := (Nat → ClassId) × (Nat → Nat → Nat) × (Nat → ClassId) × Nat × Nat × Nat × (Nat → Int32)
def nd_fv (ad : Nat → Nat) (h : Hp) (n : Nat) (f : Nat × Bool) : Value := if f.2 then va_rf ((gP h f.1 n).map ad) else .int (gI h f.1 n)
def nd_av (ad : Nat → Nat) (h : Hp) (n j : Nat) : Value := if nd_Kd n = 23 then .long (gJ h j) else if 24 ≤ nd_Kd n then va_rf ((gR h n j).map ad) else .int (gA h n j)
def nd_at (w : Wd) (ad : Nat → Nat) (h : Hp) (H : Heap) (n : Nat) : Prop :=
  (∀ q, nd_cl[nd_Kd n]? = some q → t_OB (ad n) (w.1 (nd_Kd n)) q.2.2 (w.2.1 (nd_Kd n)) H (fun k => nd_fv ad h n (nd_fd (nd_Kd n) k))) ∧
  (20 ≤ nd_Kd n → H[ad n]? = some (arrV (w.2.2.1 (nd_Kd n - 20)) (nd_Ln n) (fun j => nd_av ad h n j)))
def nd_Rep (w : Wd) (ad : Nat → Nat) (h : Hp) (H : Heap) : Prop :=
  (∀ n, gL h n = true → (nd_Kd n ≠ 16 → w.2.2.2.1 ≤ ad n) ∧ ad n < H.size ∧ nd_at w ad h H n) ∧ (∀ n n', gL h n = true → gL h n' = true → ad n = ad n' → n = n') ∧ (gL h 5 = true → ad 5 = w.2.2.2.2.1)
def nd_wf (h : Hp) : Prop :=
  (∀ n f b, gL h n = true → gP h f n = some b → gL h b = true ∧ nd_okF f (nd_Kd b) = true) ∧
  ∀ n j b, gL h n = true → gR h n j = some b → gL h b = true ∧ nd_okR (nd_Kd n) (nd_Kd b) = true
def nd_mono (h h' : Hp) : Prop := (∀ n, gL h n = true → gL h' n = true) ∧ gC h ≤ gC h' ∧ gZ h ≤ gZ h'
theorem nd_mono.rf (h : Hp) : nd_mono h h := ⟨fun _ h => h, Nat.le_refl _, Nat.le_refl _⟩
theorem nd_mono.tr {h h' h'' : Hp} (a : nd_mono h h') (b : nd_mono h' h'') : nd_mono h h'' := ⟨fun n q => b.1 n (a.1 n q), Nat.le_trans a.2.1 b.2.1, Nat.le_trans a.2.2 b.2.2⟩
/-- the kinds that an answer of a type may have -/
def nd_okT (t : Option FieldType) (k : Nat) : Bool := match t with
  | some (.object C) => if C = "NotationDesk$Type" then [6, 7, 8, 9, 11, 12].contains k else if C = "NotationDesk$Part" then k == 13 else if C = "NotationDesk$Numeric" then k == 6 else if C = "NotationDesk$Tagged" then k == 12 else false
  | _ => false
def nd_rok (t : Option FieldType) (r : Res) : Prop := nd_wf r.2 ∧ ∀ b, r.1 = .inl (some (vr (some b))) → gL r.2 b = true ∧ nd_okT t (nd_Kd b) = true
/-- the exceptions by number -/
def nd_xn (k : Nat) : String := match k with
  | 0 => "java/lang/IllegalArgumentException"
  | 1 => "java/lang/IllegalStateException"
  | 2 => "java/util/NoSuchElementException"
  | 3 => "java/lang/UnsupportedOperationException"
  | _ => "java/lang/IndexOutOfBoundsException"
abbrev Ev : Type := Program × Launch × Env × Room × State × MethodId × Array Value × List Frame × Method × Code × Wd × (Nat → Nat) × Hp
def nd_E2 (w : Wd) (ad0 : Nat → Nat) (h0 : Hp) (r : Res) (ad : Nat → Nat) (st t : State) : Prop :=
  nd_Rep w ad r.2 t.heap ∧ (∀ n, gL h0 n = true → ad n = ad0 n) ∧ va_F (fun q => w.2.2.2.1 ≤ q) st t
def nd_Qc (w : Wd) (ad0 : Nat → Nat) (h0 : Hp) (r : Res) : Array Value → State → Outcome → State → Prop := fun _ st o t =>
  ∃ (ad : Nat → Nat) (v : Option AV), r.1 = .inl v ∧ o = .returned (v.map (tv ad)) ∧ nd_E2 w ad0 h0 r ad st t
def nd_XC (w : Wd) (ad0 : Nat → Nat) (h0 : Hp) (r : Res) : String → State → State → Prop := fun E st t =>
  ∃ (ad : Nat → Nat) (x : Nat), r.1 = .inr x ∧ nd_xn x = E ∧ nd_E2 w ad0 h0 r ad st t
/-- exceptions that a handler's class doesn't take -/
def nd_ncl : List (String × String) := [("java/lang/IllegalStateException", "java/lang/IllegalArgumentException"), ("java/util/NoSuchElementException", "java/lang/IllegalArgumentException"), ("java/util/NoSuchElementException", "java/lang/IllegalStateException"), ("java/lang/UnsupportedOperationException", "java/lang/IllegalArgumentException"), ("java/lang/UnsupportedOperationException", "java/lang/IllegalStateException"), ("java/lang/UnsupportedOperationException", "java/util/NoSuchElementException")]
/-- what the tables say, carried along: classes, arrays, nest mates, casts, Throwable's statics -/
def nd_KT (w : Wd) (U : State) : Prop :=
  va_K (w.1, w.2.1) nd_cl (nd_tys w.2.2.1) U ∧
  (∀ a i b n d h, Cond.fieldLinkNest a i b n d h ∈ lw_tbl → va_Nw (.fieldLinkNest a i b n d h) U) ∧ (∀ a i x h, Cond.methodLinkNest a i x h ∈ lw_tbl → va_Nw (.methodLinkNest a i x h) U) ∧
  (∀ C T, Cond.castable C T ∈ lw_tbl → va_Nw (.castable C T) U) ∧ (∀ C, Cond.arrayOver (.object C) ∈ lw_tbl → va_AO C U) ∧ (∀ x, Cond.declares x ∈ lw_tbl → va_Nw (.declares x) U) ∧ ∀ q ∈ nd_ncl, va_Nc q.1 q.2 U
def nd_KZ (w : Wd) (U : State) (H : Heap) : Prop :=
  vx_Zq Bundle.tN "UNASSIGNED_STACK" Bundle.steD (fun q => w.2.2.2.1 ≤ q) U H ∧ vx_Zq Bundle.tN "SUPPRESSED_SENTINEL" Bundle.listD (fun q => w.2.2.2.1 ≤ q) U H ∧ va_X w.2.2.2.2.1 w.2.2.2.2.2.1 w.2.2.2.2.2.2 U H ∧ w.2.2.2.2.1 < w.2.2.2.1 ∧ w.2.2.2.1 ≤ H.size
def nd_Cx (E : Ev) (l0 : Launch) (w0 : Wd) (y : MethodName) (cc : ByteArray) (nL : Nat) (ret : Option FieldType) (fr lo : Nat) : Prop := match E with
  | (p, l, _, R, s, m, args, _, meth, c, w, _, _) => p.tables.exec = Jvm.exec ∧ c.code = cc ∧ c.maxLocals = nL ∧ s.vm.findClass y.cls = some m.cls ∧ (∀ w ∈ lw_all, w.before args s = true) ∧ meth.sig.returnType = ret ∧ meth.locks = false ∧
    (y.name = "<init>" → meth.name = "<init>") ∧ (y.cls ≠ "NotationDeskLaw" → ∀ x ∈ c.exceptionTable.toList, False) ∧ nd_KT w s ∧ nd_KZ w s s.heap ∧ fr ≤ R.frames ∧ lo ≤ R.locals ∧ l.stackTraces = false ∧ l = l0 ∧ w = w0 ∧ w.2.2.2.1 ≤ s.heap.size ∧ (y.name ≠ "law" → ∀ b1 m1 r1 hh, Cond.codeWith y b1 m1 r1 hh ∈ lw_all → c.exceptionTable.toList = tableOf hh)
def nd_In (E : Ev) (r : Res) (h : Hp) (ad : Nat → Nat) (H : Heap) (locs : List Loc) (ls : Array Slot) (L : LL) : Prop := match E with
  | (_, _, _, R, s, _, _, _, _, c, w, ad0, h0) => nd_Rep w ad h H ∧ va_S (fun q => w.2.2.2.1 ≤ q) s.heap H locs ∧ lv_has ls c.maxLocals (trL ad L) ∧ (∀ n, gL h0 n = true → gL h n = true ∧ ad n = ad0 n) ∧
    gC r.2 - gC h0 ≤ R.cells ∧ gZ r.2 - gZ h0 ≤ R.slots ∧ gC h0 ≤ gC h ∧ gZ h0 ≤ gZ h
def nd_W (E : Ev) (r : Res) (h : Hp) (H : Heap) (locs : List Loc) (g : MethodId → JFrame) : Prop := match E with
  | (p, l, e, R, s, m, args, below, meth, c, w, ad0, h0) => W p l e R s m args below meth c H locs (gC h - gC h0) (gZ h - gZ h0) (vx_MQ below (nd_Qc w ad0 h0 r) (nd_XC w ad0 h0 r) args s (gC r.2 - gC h0) (gZ r.2 - gZ h0) (fun q => w.2.2.2.1 ≤ q)) (g m)
/-- from the frame at pc with locals L and stack st over the heap h the method comes to its end r -/
def nd_V (l : Launch) (w : Wd) (y : MethodName) (cc : ByteArray) (nL : Nat) (ret : Option FieldType) (fr lo : Nat) (r : Res) (h : Hp) (pc : Nat) (L : LL) (st : List AV) : Prop :=
  nd_wf h → laL h L → laS h st → nd_mono h r.2 ∧ nd_rok ret r ∧ ∀ E, nd_Cx E l w y cc nL ret fr lo → ∀ ad H locs ls, nd_In E r h ad H locs ls L → nd_W E r h H locs (fun m => F0 m pc ls (st.map (tv ad)))
/-- a contract: the method y, called with the values as over h, comes to its end r -/
def nd_C (l : Launch) (w : Wd) (y : MethodName) (cc : ByteArray) (nL : Nat) (ret : Option FieldType) (fr lo : Nat) (as : List AV) (h : Hp) (r : Res) : Prop :=
  nd_wf h → laS h as → nd_mono h r.2 ∧ nd_rok ret r ∧ ∀ ad0, vx_Met l y (ws_ y cc nL ret) ({ frames := fr, cells := gC r.2 - gC h, slots := gZ r.2 - gZ h, locals := lo })
    (fun a U => a = (as.map (tv ad0)).toArray ∧ nd_KT w U ∧ nd_KZ w U U.heap ∧ nd_Rep w ad0 h U.heap ∧ w.2.2.2.1 ≤ U.heap.size) (nd_Qc w ad0 h r) (nd_XC w ad0 h r) (gC r.2 - gC h) (gZ r.2 - gZ h) (fun q => w.2.2.2.1 ≤ q)
