/-! THE SPEC: types as rows of a table, values as trees; BER reading, DER writing, PER reading and writing; no heap in sight -/
set_option maxRecDepth 100000
/-- kind, sized, low, high, digit, implicit, count, child, flag, given, begins, height -/
abbrev Tb : Type := (Nat → Nat) × (Nat → Bool) × (Nat → Int32) × (Nat → Int32) × (Nat → Nat) × (Nat → Bool) × (Nat → Nat) × (Nat → Nat → Nat) × (Nat → Nat → Nat) × (Nat → Nat → Int32) × (Nat → Nat) × (Nat → Nat)
def tK (τ : Tb) : Nat → Nat := τ.1
def tB (τ : Tb) : Nat → Bool := τ.2.1
def tLo (τ : Tb) : Nat → Int32 := τ.2.2.1
def tHi (τ : Tb) : Nat → Int32 := τ.2.2.2.1
def tG (τ : Tb) : Nat → Nat := τ.2.2.2.2.1
def tM (τ : Tb) : Nat → Bool := τ.2.2.2.2.2.1
def tN (τ : Tb) : Nat → Nat := τ.2.2.2.2.2.2.1
def tC (τ : Tb) : Nat → Nat → Nat := τ.2.2.2.2.2.2.2.1
def tF (τ : Tb) : Nat → Nat → Nat := τ.2.2.2.2.2.2.2.2.1
def tD (τ : Tb) : Nat → Nat → Int32 := τ.2.2.2.2.2.2.2.2.2.1
def tS (τ : Tb) : Nat → Nat := τ.2.2.2.2.2.2.2.2.2.2.1
def tH (τ : Tb) : Nat → Nat := τ.2.2.2.2.2.2.2.2.2.2.2
/-- what a type is around -/
def bas (τ : Tb) : Nat → Nat → Nat
  | 0, t => t
  | n + 1, t => if tK τ t = 10 then bas τ n (tC τ t 0) else t
/-- its tag bytes, the outer one first; a digit instead of the outermost tag -/
def tgs (τ : Tb) : Nat → Nat → Option Nat → List Nat
  | 0, _, _ => []
  | n + 1, t, g => if tK τ t = 10 then
      (if tM τ t = true ∧ tK τ (tC τ t 0) ≠ 9 then tgs τ n (tC τ t 0) (some (g.getD (tG τ t))) else (160 + g.getD (tG τ t)) :: tgs τ n (tC τ t 0) none)
    else if tK τ t = 9 then []
    else if tK τ t = 6 ∨ tK τ t = 7 then [match g with | none => 48 | some x => 160 + x]
    else [match g with | none => tK τ t | some x => 128 + x]
/-- a value: the row of what its type is around, its number, its octets; what is in it, with its places -/
def Vt : Nat → Type
  | 0 => Unit
  | n + 1 => (Nat × Int32 × List Nat) × List (Nat × Vt n)
def vT {n : Nat} (v : Vt (n + 1)) : Nat := v.1.1
def vN {n : Nat} (v : Vt (n + 1)) : Int32 := v.1.2.1
def vO {n : Nat} (v : Vt (n + 1)) : List Nat := v.1.2.2
def vK {n : Nat} (v : Vt (n + 1)) : List (Nat × Vt n) := v.2
def mkV {n : Nat} (t : Nat) (x : Int32) (o : List Nat) (k : List (Nat × Vt n)) : Vt (n + 1) := ((t, x, o), k)
/-- how many parts it has -/
def sz : (n : Nat) → Vt n → Nat
  | 0, _ => 0
  | n + 1, v => 1 + ((vK v).map fun q => sz n q.2).sum
/-- how many octets -/
def oz : (n : Nat) → Vt n → Nat
  | 0, _ => 0
  | n + 1, v => (vO v).length + ((vK v).map fun q => oz n q.2).sum
def vNum : (n : Nat) → Vt n → Int32
  | 0, _ => 0
  | _ + 1, v => vN v
def inR (x lo hi : Int32) : Bool := decide (lo ≤ x) && decide (x ≤ hi)
def byO (x : Int32) : Nat := if inR x (-128) 127 then 1 else if inR x (-32768) 32767 then 2 else if inR x (-8388608) 8388607 then 3 else 4
def bitO (x : Nat) : Nat := if (128 ≤ x ∧ x ≤ 137) ∨ (160 ≤ x ∧ x ≤ 169) then 2 ^ (20 + x % 32) else if x = 1 ∨ x = 2 ∨ x = 4 ∨ x = 5 then 2 ^ x else if x = 48 then 2 ^ 16 else 0
/-- the tag at a place, as a bit -/
def bitA (b : Nat → Nat) (a e : Nat) : Nat := if a < e then bitO (b a) else 0
section Ber
variable (b : Nat → Nat)
/-- a length at a place, before an end: none for an open one; the place behind -/
def lnF (e n a : Nat) : Option (Option Nat × Nat) := if a + n ≤ e then some (some n, a) else none
def lnR (a e : Nat) (made : Bool) : Option (Option Nat × Nat) :=
  if a < e then
    (if b a = 128 then (if made then some (none, a + 1) else none)
     else if b a = 129 then (if a + 1 < e then lnF e (b (a + 1)) (a + 2) else none)
     else if b a = 130 then (if a + 2 < e then lnF e (256 * b (a + 1) + b (a + 2)) (a + 3) else none)
     else if 130 < b a then none
     else lnF e (b a) (a + 1))
  else none
/-- goes into what is made of elements: place, end, whether its length is open -/
def ent (x a e : Nat) : Option (Nat × Nat × Bool) :=
  if a < e ∧ b a = x then
    (match lnR b (a + 1) e true with
     | none => none
     | some (none, a') => some (a', e, true)
     | some (some n, a') => some (a', a' + n, false))
  else none
def isE (a e : Nat) (l : Bool) : Bool := if l then decide (a + 1 < e ∧ b a = 0 ∧ b (a + 1) = 0) else decide (a = e)
def lea (a e : Nat) (l : Bool) : Option Nat := if isE b a e l then some (if l then a + 2 else a) else none
/-- through explicit tags -/
def rT {α : Type} (k : Nat → Nat → Option (α × Nat)) : List Nat → Nat → Nat → Option (α × Nat)
  | [], a, e => k a e
  | x :: xs, a, e => match ent b x a e with
    | none => none
    | some (a1, e1, l) => match rT k xs a1 e1 with
      | none => none
      | some (v, a2) => match lea b a2 e1 l with
        | none => none
        | some a3 => some (v, a3)
def byL (a n : Nat) : List Nat := (List.range n).map fun i => b (a + i)
/-- an int of bytes -/
def ivL (l : List Nat) : Int32 := l.foldl (fun v x => (v <<< 8) ||| Int32.ofNat x) (if 127 < l.headD 0 then -1 else 0)
/-- the content of a leaf: its number, its octets -/
def leaf (τ : Tb) (t a n : Nat) : Option (Int32 × List Nat) :=
  if tK τ t = 5 then (if n = 0 then some (0, []) else none)
  else if tK τ t = 1 then (if n = 1 then some (if b a = 0 then 0 else 1, []) else none)
  else if tK τ t = 2 then (if (1 ≤ n ∧ n ≤ 4) ∧ byO (ivL (byL b a n)) = n ∧ (tB τ t = true → inR (ivL (byL b a n)) (tLo τ t) (tHi τ t) = true) then some (ivL (byL b a n), []) else none)
  else (if tB τ t = true → inR (Int32.ofNat n) (tLo τ t) (tHi τ t) = true then some (Int32.ofNat n, byL b a n) else none)
/-- the components of a sequence from the k-th on -/
def rdS (τ : Tb) {d : Nat} (R : Nat → Nat → Nat → Nat → Option (Vt d × Nat)) (D : Nat → Int32 → Vt d) (q e : Nat) : Nat → Nat → Nat → Nat → Option (List (Nat × Vt d) × Nat)
  | 0, _, a, _ => some ([], a)
  | r + 1, k, a, m => if tS τ (tC τ q k) &&& bitA b a e ≠ 0 then
      (match R (tC τ q k) a e m with
       | none => none
       | some (v, a1) => match rdS τ R D q e r (k + 1) a1 (m + sz d v) with
         | none => none
         | some (l, a2) => some ((k, v) :: l, a2))
    else if tF τ q k = 0 then none
    else if tF τ q k = 2 then
      (if m < 100 then (match rdS τ R D q e r (k + 1) a (m + 1) with
         | none => none
         | some (l, a2) => some ((k, D (tC τ q k) (tD τ q k)) :: l, a2)) else none)
    else rdS τ R D q e r (k + 1) a m
/-- the items of a list -/
def rdL (τ : Tb) {d : Nat} (R : Nat → Nat → Nat → Nat → Option (Vt d × Nat)) (q e : Nat) (l : Bool) : Nat → Nat → Nat → Nat → Option (List (Nat × Vt d) × Nat)
  | 0, _, _, _ => none
  | r + 1, k, a, m => if isE b a e l then some ([], a) else
      match R (tC τ q 0) a e m with
       | none => none
       | some (v, a1) => match rdL τ R q e l r (k + 1) a1 (m + sz d v) with
         | none => none
         | some (l, a2) => some ((k, v) :: l, a2)
/-- the first alternative that begins so -/
def alt (τ : Tb) (q bit : Nat) : Nat → Nat → Option Nat
  | 0, _ => none
  | r + 1, k => if tS τ (tC τ q k) &&& bit ≠ 0 then some k else alt τ q bit r (k + 1)
/-- a leaf that is a default -/
def dfl (τ : Tb) : (d : Nat) → Nat → Int32 → Vt d
  | 0, _, _ => ()
  | _ + 1, t, x => mkV (bas τ 200 t) x [] []
/-- a choice; a sequence, a list, a leaf behind the tags around them -/
def rdCh (τ : Tb) {d : Nat} (R : Nat → Nat → Nat → Nat → Option (Vt d × Nat)) (q m a e : Nat) : Option (Vt (d + 1) × Nat) :=
  match alt τ q (bitA b a e) (tN τ q) 0 with
  | none => none
  | some k => if m < 100 then (match R (tC τ q k) a e (m + 1) with
      | none => none
      | some (v, a1) => some (mkV q (Int32.ofNat k) [] [(0, v)], a1)) else none
def rdSq (τ : Tb) {d : Nat} (R : Nat → Nat → Nat → Nat → Option (Vt d × Nat)) (q x m a e : Nat) : Option (Vt (d + 1) × Nat) :=
  match ent b x a e with
  | none => none
  | some (a1, e1, l) => match rdS b τ R (dfl τ d) q e1 (tN τ q) 0 a1 (m + 1) with
    | none => none
    | some (ks, a2) => match lea b a2 e1 l with
      | none => none
      | some a3 => some (mkV q (Int32.ofNat ks.length) [] ks, a3)
def rdLs (τ : Tb) {d : Nat} (R : Nat → Nat → Nat → Nat → Option (Vt d × Nat)) (q x m a e : Nat) : Option (Vt (d + 1) × Nat) :=
  match ent b x a e with
  | none => none
  | some (a1, e1, l) => match rdL b τ R q e1 l 101 0 a1 (m + 1) with
    | none => none
    | some (ks, a2) => if tB τ q = true → inR (Int32.ofNat ks.length) (tLo τ q) (tHi τ q) = true then
        (match lea b a2 e1 l with
         | none => none
         | some a3 => some (mkV q (Int32.ofNat ks.length) [] ks, a3)) else none
def rdLf (τ : Tb) {d : Nat} (q x a e : Nat) : Option (Vt (d + 1) × Nat) :=
  if a < e ∧ b a = x then
    (match lnR b (a + 1) e false with
     | none => none
     | some (none, _) => none
     | some (some n, a1) => match leaf b τ q a1 n with
       | none => none
       | some (x, o) => some (mkV q x o [], a1 + n))
  else none
def rdIn (τ : Tb) {d : Nat} (R : Nat → Nat → Nat → Nat → Option (Vt d × Nat)) (q x m a e : Nat) : Option (Vt (d + 1) × Nat) :=
  if m < 100 then (if tK τ q = 6 then rdSq b τ R q x m a e else if tK τ q = 7 then rdLs b τ R q x m a e else rdLf b τ q x a e) else none
/-- the value of a type (with a digit instead of its outermost tag) at a place, before an end, when there are m parts; and the place behind it -/
def rd (τ : Tb) : (d : Nat) → Nat → Option Nat → Nat → Nat → Nat → Option (Vt d × Nat)
  | 0, _, _, _, _, _ => none
  | d + 1, t, g, a, e, m =>
    if tK τ (bas τ 200 t) = 9 then rT b (rdCh b τ (fun t a e m => rd τ d t none a e m) (bas τ 200 t) m) (tgs τ 200 t g) a e
    else rT b (rdIn b τ (fun t a e m => rd τ d t none a e m) (bas τ 200 t) ((tgs τ 200 t g).getLastD 0) m) (tgs τ 200 t g).dropLast a e
end Ber
/-- DER -/
def hdr (x n : Nat) : List Nat := x :: ((if 255 < n then [130, n / 256] else if 127 < n then [129] else []) ++ [n % 256])
def wrp : List Nat → List Nat → List Nat
  | [], c => c
  | x :: xs, c => hdr x (wrp xs c).length ++ wrp xs c
/-- the bytes of an int, k of them -/
def ibs (x : Int32) : Nat → List Nat
  | 0 => []
  | k + 1 => ((x >>> Int32.ofNat (8 * k)) &&& 255).toNatClampNeg :: ibs x k
/-- a component that has its default -/
def lft (τ : Tb) (q : Nat) {d : Nat} (k : Nat × Vt d) : Bool := tK τ q == 6 && tF τ q k.1 == 2 && tD τ q k.1 == vNum d k.2
def enc (τ : Tb) : (d : Nat) → Vt d → Nat → Option Nat → List Nat
  | 0, _, _, _ => []
  | d + 1, v, t, g => wrp (tgs τ 200 t g)
    (if tK τ (bas τ 200 t) = 1 then [(255 * vN v).toNatClampNeg]
     else if tK τ (bas τ 200 t) = 2 then ibs (vN v) (byO (vN v))
     else if tK τ (bas τ 200 t) = 4 then vO v
     else if tK τ (bas τ 200 t) = 5 then []
     else ((vK v).map fun q => if lft τ (bas τ 200 t) q then [] else enc τ d q.2 (if tK τ (bas τ 200 t) = 6 then tC τ (bas τ 200 t) q.1 else if tK τ (bas τ 200 t) = 7 then tC τ (bas τ 200 t) 0 else tC τ (bas τ 200 t) (vN v).toNatClampNeg) none).flatten)
/-- PER: bits -/
def al8 (p : Nat) : Nat := (p + 7) / 8 * 8
def wid (n : Nat) : Nat := if n = 0 then 0 else Nat.log2 n + 1
/-- how many bits a number of a range has -/
def rwd (n : Nat) : Nat := if n < 255 then wid n else if n = 255 then 8 else 16
/-- the order of the alternatives of a choice: by their least tags -/
def lsb (τ : Tb) (c : Nat) : Int32 := zI (tS τ c) &&& -zI (tS τ c)
def rnk (τ : Tb) (q k : Nat) : Nat := (List.range (tN τ q)).countP fun i => decide (lsb τ (tC τ q i) < lsb τ (tC τ q k))
def rkF (τ : Tb) (q r : Nat) : Nat → Nat → Option Nat
  | 0, _ => none
  | n + 1, k => if rnk τ q k = r then some k else rkF τ q r n (k + 1)
section Per
variable (b : Nat → Nat) (T : Nat)
def btA (p : Nat) : Nat := b (p / 8) / 2 ^ (7 - p % 8) % 2
def tkv (p : Nat) : Nat → Nat
  | 0 => 0
  | n + 1 => 2 * tkv p n + btA b (p + n)
def tk (p n : Nat) : Option (Nat × Nat) := if p + n ≤ T then some (tkv b p n, p + n) else none
/-- a number of 0 .. n -/
def rng (n p : Nat) : Option (Nat × Nat) := match tk b T (if 254 < n then al8 p else p) (rwd n) with
  | none => none
  | some (v, p1) => if v ≤ n then some (v, p1) else none
def spn (τ : Tb) (q : Nat) : Nat := (tHi τ q - tLo τ q).toNatClampNeg
def rngI (τ : Tb) (q p : Nat) : Option (Int32 × Nat) := match rng b T (spn τ q) p with
  | none => none
  | some (v, p1) => some (tLo τ q + Int32.ofNat v, p1)
/-- how many there are -/
def cnt (τ : Tb) (q p : Nat) : Option (Int32 × Nat) := if tB τ q then rngI b T τ q p else
  match tk b T (al8 p) 8 with
  | none => none
  | some (v, p1) => if v ≤ 127 then some (Int32.ofNat v, p1) else none
def sho (τ : Tb) (q : Nat) : Bool := decide (tLo τ q = tHi τ q) && decide (tHi τ q ≤ 2)
def octs (p n : Nat) : List Nat := (List.range n).map fun i => tkv b (p + 8 * i) 8
/-- which components are there -/
def mks (τ : Tb) (q : Nat) : Nat → Nat → Nat → Option (List Bool × Nat)
  | 0, _, p => some ([], p)
  | r + 1, k, p => if tF τ q k = 0 then
      (match mks τ q r (k + 1) p with
       | none => none
       | some (l, p1) => some (true :: l, p1))
    else if p + 1 ≤ T then
      (match mks τ q r (k + 1) (p + 1) with
       | none => none
       | some (l, p1) => some ((btA b p == 1) :: l, p1))
    else none
def upS (τ : Tb) {d : Nat} (R : Nat → Nat → Nat → Option (Vt d × Nat)) (D : Nat → Int32 → Vt d) (q : Nat) : List Bool → Nat → Nat → Nat → Option (List (Nat × Vt d) × Nat)
  | [], _, p, _ => some ([], p)
  | is :: r, k, p, m => if is then
      (match R (tC τ q k) p m with
       | none => none
       | some (v, p1) => match upS τ R D q r (k + 1) p1 (m + sz d v) with
         | none => none
         | some (l, p2) => some ((k, v) :: l, p2))
    else if tF τ q k = 0 then none
    else if tF τ q k = 2 then
      (if m < 100 then (match upS τ R D q r (k + 1) p (m + 1) with
         | none => none
         | some (l, p2) => some ((k, D (tC τ q k) (tD τ q k)) :: l, p2)) else none)
    else upS τ R D q r (k + 1) p m
def upL (τ : Tb) {d : Nat} (R : Nat → Nat → Nat → Option (Vt d × Nat)) (q : Nat) : Nat → Nat → Nat → Nat → Option (List (Nat × Vt d) × Nat)
  | 0, _, p, _ => some ([], p)
  | r + 1, k, p, m => match R (tC τ q 0) p m with
       | none => none
       | some (v, p1) => match upL τ R q r (k + 1) p1 (m + sz d v) with
         | none => none
         | some (l, p2) => some ((k, v) :: l, p2)
/-- the packed value of a type at a bit; strict: an int has as few bytes as can be -/
def up (τ : Tb) (strict : Bool) : (d : Nat) → Nat → Nat → Nat → Option (Vt d × Nat)
  | 0, _, _, _ => none
  | d + 1, t, p, m =>
    if m < 100 then
      (if tK τ (bas τ 200 t) = 9 then
        (match rng b T (tN τ (bas τ 200 t) - 1) p with
         | none => none
         | some (r, p1) => match rkF τ (bas τ 200 t) r (tN τ (bas τ 200 t)) 0 with
           | none => none
           | some k => match up τ strict d (tC τ (bas τ 200 t) k) p1 (m + 1) with
             | none => none
             | some (v, p2) => some (mkV (bas τ 200 t) (Int32.ofNat k) [] [(0, v)], p2))
       else if tK τ (bas τ 200 t) = 6 then
        (match mks b T τ (bas τ 200 t) (tN τ (bas τ 200 t)) 0 p with
         | none => none
         | some (l, p1) => match upS τ (up τ strict d) (dfl τ d) (bas τ 200 t) l 0 p1 (m + 1) with
           | none => none
           | some (ks, p2) => some (mkV (bas τ 200 t) (Int32.ofNat ks.length) [] ks, p2))
       else if tK τ (bas τ 200 t) = 7 then
        (match cnt b T τ (bas τ 200 t) p with
         | none => none
         | some (n, p1) => match upL τ (up τ strict d) (bas τ 200 t) n.toNatClampNeg 0 p1 (m + 1) with
           | none => none
           | some (ks, p2) => some (mkV (bas τ 200 t) (Int32.ofNat ks.length) [] ks, p2))
       else if tK τ (bas τ 200 t) = 4 then
        (match cnt b T τ (bas τ 200 t) p with
         | none => none
         | some (n, p1) => if (if tB τ (bas τ 200 t) = true ∧ ¬ n = 0 ∧ sho τ (bas τ 200 t) = false then al8 p1 else p1) + 8 * n.toNatClampNeg ≤ T then
             some (mkV (bas τ 200 t) n (octs b (if tB τ (bas τ 200 t) = true ∧ ¬ n = 0 ∧ sho τ (bas τ 200 t) = false then al8 p1 else p1) n.toNatClampNeg) [], (if tB τ (bas τ 200 t) = true ∧ ¬ n = 0 ∧ sho τ (bas τ 200 t) = false then al8 p1 else p1) + 8 * n.toNatClampNeg) else none)
       else if tK τ (bas τ 200 t) = 5 then some (mkV (bas τ 200 t) 0 [] [], p)
       else if tK τ (bas τ 200 t) = 1 then
        (match tk b T p 1 with
         | none => none
         | some (v, p1) => some (mkV (bas τ 200 t) (Int32.ofNat v) [] [], p1))
       else if tB τ (bas τ 200 t) then
        (match rngI b T τ (bas τ 200 t) p with
         | none => none
         | some (x, p1) => some (mkV (bas τ 200 t) x [] [], p1))
       else
        (match tk b T (al8 p) 8 with
         | none => none
         | some (n, p1) => if (1 ≤ n ∧ n ≤ 4) ∧ p1 + 8 * n ≤ T ∧ (strict = true → byO (ivL (octs b p1 n)) = n) then some (mkV (bas τ 200 t) (ivL (octs b p1 n)) [] [], p1 + 8 * n) else none))
    else none
end Per
/-- packed writing: bits behind those that are there -/
def btL (x : Int32) : Nat → List Bool
  | 0 => []
  | k + 1 => (((x >>> Int32.ofNat k) &&& 1) == 1) :: btL x k
def fil (acc : List Bool) : List Bool := acc ++ List.replicate (al8 acc.length - acc.length) false
def prn (n : Nat) (x : Int32) (acc : List Bool) : List Bool := (if 254 < n then fil acc else acc) ++ btL x (rwd n)
def pcn (τ : Tb) (q : Nat) (x : Int32) (acc : List Bool) : List Bool := if tB τ q then prn (spn τ q) (x - tLo τ q) acc else fil acc ++ btL x 8
def kidF {d : Nat} (l : List (Nat × Vt d)) (k : Nat) : Option (Nat × Vt d) := l.find? fun q => q.1 == k
/-- the bits for what may be missing -/
def pmk (τ : Tb) (q : Nat) {d : Nat} (l : List (Nat × Vt d)) : Nat → Nat → List Bool
  | 0, _ => []
  | r + 1, k => if tF τ q k = 0 then pmk τ q l r (k + 1) else (match kidF l k with | none => false | some v => !lft τ q v) :: pmk τ q l r (k + 1)
def pks {d : Nat} (P : Nat × Vt d → List Bool → List Bool) : List (Nat × Vt d) → List Bool → List Bool
  | [], acc => acc
  | q :: l, acc => pks P l (P q acc)
def pk (τ : Tb) : (d : Nat) → Vt d → Nat → List Bool → List Bool
  | 0, _, _, acc => acc
  | d + 1, v, t, acc =>
    if tK τ (bas τ 200 t) = 9 then pks (fun q acc => pk τ d q.2 (tC τ (bas τ 200 t) (vN v).toNatClampNeg) acc) (vK v) (prn (tN τ (bas τ 200 t) - 1) (Int32.ofNat (rnk τ (bas τ 200 t) (vN v).toNatClampNeg)) acc)
    else if tK τ (bas τ 200 t) = 6 then pks (fun q acc => if lft τ (bas τ 200 t) q then acc else pk τ d q.2 (tC τ (bas τ 200 t) q.1) acc) (vK v) (acc ++ pmk τ (bas τ 200 t) (vK v) (tN τ (bas τ 200 t)) 0)
    else if tK τ (bas τ 200 t) = 7 then pks (fun q acc => pk τ d q.2 (tC τ (bas τ 200 t) 0) acc) (vK v) (pcn τ (bas τ 200 t) (vN v) acc)
    else if tK τ (bas τ 200 t) = 4 then (vO v).foldl (fun acc x => acc ++ btL (Int32.ofNat x) 8) (if tB τ (bas τ 200 t) = true ∧ ¬ vN v = 0 ∧ sho τ (bas τ 200 t) = false then fil (pcn τ (bas τ 200 t) (vN v) acc) else pcn τ (bas τ 200 t) (vN v) acc)
    else if tK τ (bas τ 200 t) = 5 then acc
    else if tK τ (bas τ 200 t) = 1 then acc ++ btL (vN v) 1
    else if tB τ (bas τ 200 t) then prn (spn τ (bas τ 200 t)) (vN v - tLo τ (bas τ 200 t)) acc
    else fil acc ++ btL (Int32.ofNat (byO (vN v))) 8 ++ btL (vN v) (8 * byO (vN v))
