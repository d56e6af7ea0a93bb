/-! more combinators -/
set_option maxRecDepth 100000
def cx {α β : Type} (x : Option ((β ⊕ Nat) × Hp)) (k : β → Hp → Option ((α ⊕ Nat) × Hp)) : Option ((α ⊕ Nat) × Hp) := match x with
  | some (.inl v, h) => k v h
  | some (.inr e, h) => some (.inr e, h)
  | none => none
theorem cxE {α β : Type} {x : Option ((β ⊕ Nat) × Hp)} {k : β → Hp → Option ((α ⊕ Nat) × Hp)} {r : (α ⊕ Nat) × Hp} (h : cx x k = some r) : (∃ v h', x = some (.inl v, h') ∧ k v h' = some r) ∨ (∃ e h', x = some (.inr e, h') ∧ r = (.inr e, h')) := by
  match x, h with
  | some (.inl v, h'), h => exact Or.inl ⟨v, h', rfl, h⟩
  | some (.inr e, h'), h => exact Or.inr ⟨e, h', rfl, (Option.some.inj h).symm⟩
  | none, h => cases h
def rxi (r : (Int32 ⊕ Nat) × Hp) : Res := match r with
  | (.inl v, h) => (.inl (some (vi v)), h)
  | (.inr e, h) => (.inr e, h)
def rxr (r : (Option Nat ⊕ Nat) × Hp) : Res := match r with
  | (.inl v, h) => (.inl (some (vr v)), h)
  | (.inr e, h) => (.inr e, h)
def rxv (r : (Unit ⊕ Nat) × Hp) : Res := match r with
  | (.inl _, h) => (.inl none, h)
  | (.inr e, h) => (.inr e, h)
theorem nd_p2 {P Q : Prop} {k c1 c2 : Nat} (hk : [c1, c2].contains k = true) (f1 : k = c1 → P → Q) (f2 : k = c2 → P → Q) (p : P) : Q := by
  have : k = c1 ∨ k = c2 := by simpa using hk
  rcases this with h | h
  · exact f1 h p
  · exact f2 h p
section NdE
variable {l : Launch} {w : Wd} {r : Res} {h : Hp} {pc : Nat} {L L' : LL} {st st' st0 : List AV} {y : MethodName} {cc : ByteArray} {nL fr lo : Nat} {ret : Option FieldType}
theorem nd_top2 {z : AV} {v u : Int32} (e : u = v) (kk : nd_V l w y cc nL ret fr lo r h pc L (z :: vi u :: st)) : nd_V l w y cc nL ret fr lo r h pc L (z :: vi v :: st) := e ▸ kk
end NdE
theorem nd_asT {k : Nat} (h : [6, 7, 8, 9, 11, 12].contains k = true) : nd_okR (20 + 4) k = true ∧ ∃ q : vw_C, nd_cl[k]? = some q ∧ ("NotationDesk$Type" = q.1 ∨ Cond.castable q.1 "NotationDesk$Type" ∈ lw_tbl) := by
  have h2 : k = 6 ∨ k = 7 ∨ k = 8 ∨ k = 9 ∨ k = 11 ∨ k = 12 := by simpa using h
  refine ⟨h, ?_⟩
  rcases h2 with rfl | rfl | rfl | rfl | rfl | rfl
  · exact ⟨_, rfl, Or.inr q1833⟩
  · exact ⟨_, rfl, Or.inr q1834⟩
  · exact ⟨_, rfl, Or.inr q1835⟩
  · exact ⟨_, rfl, Or.inr q1836⟩
  · exact ⟨_, rfl, Or.inr q1837⟩
  · exact ⟨_, rfl, Or.inr q1838⟩
theorem nd_asX5 {k : Nat} (h : k = 6) : nd_okR (20 + 5) k = true ∧ ∃ q : vw_C, nd_cl[k]? = some q ∧ ("NotationDesk$Numeric" = q.1 ∨ Cond.castable q.1 "NotationDesk$Numeric" ∈ lw_tbl) := by subst h; exact ⟨rfl, _, rfl, Or.inl rfl⟩
theorem nd_asX6 {k : Nat} (h : k = 9) : nd_okR (20 + 6) k = true ∧ ∃ q : vw_C, nd_cl[k]? = some q ∧ ("NotationDesk$Octets" = q.1 ∨ Cond.castable q.1 "NotationDesk$Octets" ∈ lw_tbl) := by subst h; exact ⟨rfl, _, rfl, Or.inl rfl⟩
theorem nd_asX7 {k : Nat} (h : k = 7) : nd_okR (20 + 7) k = true ∧ ∃ q : vw_C, nd_cl[k]? = some q ∧ ("NotationDesk$Sequence" = q.1 ∨ Cond.castable q.1 "NotationDesk$Sequence" ∈ lw_tbl) := by subst h; exact ⟨rfl, _, rfl, Or.inl rfl⟩
theorem nd_asX8 {k : Nat} (h : k = 11) : nd_okR (20 + 8) k = true ∧ ∃ q : vw_C, nd_cl[k]? = some q ∧ ("NotationDesk$Series" = q.1 ∨ Cond.castable q.1 "NotationDesk$Series" ∈ lw_tbl) := by subst h; exact ⟨rfl, _, rfl, Or.inl rfl⟩
theorem nd_asX9 {k : Nat} (h : k = 8) : nd_okR (20 + 9) k = true ∧ ∃ q : vw_C, nd_cl[k]? = some q ∧ ("NotationDesk$Choice" = q.1 ∨ Cond.castable q.1 "NotationDesk$Choice" ∈ lw_tbl) := by subst h; exact ⟨rfl, _, rfl, Or.inl rfl⟩
theorem nd_asX10 {k : Nat} (h : k = 12) : nd_okR (20 + 10) k = true ∧ ∃ q : vw_C, nd_cl[k]? = some q ∧ ("NotationDesk$Tagged" = q.1 ∨ Cond.castable q.1 "NotationDesk$Tagged" ∈ lw_tbl) := by subst h; exact ⟨rfl, _, rfl, Or.inl rfl⟩
theorem nd_asX11 {k : Nat} (h : k = 13) : nd_okR (20 + 11) k = true ∧ ∃ q : vw_C, nd_cl[k]? = some q ∧ ("NotationDesk$Part" = q.1 ∨ Cond.castable q.1 "NotationDesk$Part" ∈ lw_tbl) := by subst h; exact ⟨rfl, _, rfl, Or.inl rfl⟩
theorem okTe13 (k : Nat) : nd_okT (some (.object "NotationDesk$Part")) k = [13].contains k := by
  first | (simp [nd_okT]; done) | (simp [nd_okT]; rfl)
theorem okT13 {k : Nat} (h : nd_okT (some (.object "NotationDesk$Part")) k = true) : [13].contains k = true := okTe13 k ▸ h
theorem okT13' {k : Nat} (h : [13].contains k = true) : nd_okT (some (.object "NotationDesk$Part")) k = true := (okTe13 k).symm ▸ h
theorem okTe6 (k : Nat) : nd_okT (some (.object "NotationDesk$Numeric")) k = [6].contains k := by
  first | (simp [nd_okT]; done) | (simp [nd_okT]; rfl)
theorem okT6 {k : Nat} (h : nd_okT (some (.object "NotationDesk$Numeric")) k = true) : [6].contains k = true := okTe6 k ▸ h
theorem okT6' {k : Nat} (h : [6].contains k = true) : nd_okT (some (.object "NotationDesk$Numeric")) k = true := (okTe6 k).symm ▸ h
theorem okTe12 (k : Nat) : nd_okT (some (.object "NotationDesk$Tagged")) k = [12].contains k := by
  first | (simp [nd_okT]; done) | (simp [nd_okT]; rfl)
theorem okT12 {k : Nat} (h : nd_okT (some (.object "NotationDesk$Tagged")) k = true) : [12].contains k = true := okTe12 k ▸ h
theorem okT12' {k : Nat} (h : [12].contains k = true) : nd_okT (some (.object "NotationDesk$Tagged")) k = true := (okTe12 k).symm ▸ h
theorem okTe99 (k : Nat) : nd_okT (some (.object "NotationDesk$Type")) k = [6, 7, 8, 9, 11, 12].contains k := by
  first | (simp [nd_okT]; done) | (simp [nd_okT]; rfl)
theorem okT99 {k : Nat} (h : nd_okT (some (.object "NotationDesk$Type")) k = true) : [6, 7, 8, 9, 11, 12].contains k = true := okTe99 k ▸ h
theorem okT99' {k : Nat} (h : [6, 7, 8, 9, 11, 12].contains k = true) : nd_okT (some (.object "NotationDesk$Type")) k = true := (okTe99 k).symm ▸ h
