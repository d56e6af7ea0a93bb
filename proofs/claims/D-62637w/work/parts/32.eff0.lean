/-! EFFECTS: what a method may write (printed by tools/eff.py) -/
set_option maxRecDepth 100000
def saL : List (Nat × List Nat) := [(102, [101]), (108, [102]), (109, [103]), (110, [104]), (111, [105]), (200, [201]), (204, [202]), (205, [203]), (206, [204]), (207, [205]), (208, [206]), (209, [207]), (210, [208]), (211, [209]), (300, [1001, 2001]), (301, [1002, 2002]), (302, [1003, 2003]), (405, [301]), (406, [302]), (500, [311]), (607, [3001]), (608, [3002]), (609, [3003]), (611, [3004]), (612, [3005]), (613, [3006]), (614, [3007]), (615, [3008]), (616, [3009]), (617, [3010]), (618, [3011]), (619, [3012]), (620, [3013]), (621, [3014]), (622, [3015]), (625, [3016]), (626, [3017]), (631, [3018]), (632, [3019]), (633, [3020]), (636, [3021]), (637, [3022]), (638, [3023]), (639, [3024]), (640, [3025]), (641, [3026]), (642, [3027]), (643, [3028]), (645, [3029]), (646, [3030]), (650, [3031]), (651, [3032]), (652, [3033]), (653, [3034]), (654, [3035]), (655, [3036]), (656, [3037]), (657, [3038]), (658, [3039])]
/-- the arrays that a field may hold -/
def saF (f a : Nat) : Bool := if f = 1000 then nd_Kd a == 24 && nd_Ln a == 6 else if f = 1100 ∨ f = 1101 then nd_Kd a == 20 && nd_Ln a == 6 else match saL.lookup f with | some l => l.contains a | none => true
def FXs (h : Hp) : Prop := ∀ f o a, gP h f o = some a → saF f a = true
abbrev SS : Type := List Nat × List Nat × List Nat × List Nat × List Nat
/-- how many of the names are free -/
def frN (h : Hp) : Nat := (List.range 70000).countP fun n => !gL h n
/-- written int fields, reference fields, int arrays and reference arrays (by the field that holds them), kinds made -/
def EF (S : SS) (h h' : Hp) : Prop :=
  (∀ a, gL h a = true → gL h' a = true) ∧ (∀ a, gL h' a = true → gL h a = true ∨ S.2.2.2.2.contains (nd_Kd a) = true) ∧
  (∀ g a, gL h a = true → S.1.contains g = false → gI h' g a = gI h g a) ∧ (∀ g a, gL h a = true → S.2.1.contains g = false → gP h' g a = gP h g a) ∧
  (∀ a i, gL h a = true → (S.2.2.1.all fun f => !saF f a) = true → gA h' a i = gA h a i) ∧ (∀ a i, gL h a = true → (S.2.2.2.1.all fun f => !saF f a) = true → gR h' a i = gR h a i) ∧
  gC h' + frN h' ≤ gC h + frN h ∧ gZ h' + 20 * frN h' ≤ gZ h + 20 * frN h ∧ gJ h' = gJ h
def subS (A B : SS) : Bool := A.1.all B.1.contains && A.2.1.all B.2.1.contains && A.2.2.1.all B.2.2.1.contains && A.2.2.2.1.all B.2.2.2.1.contains && A.2.2.2.2.all B.2.2.2.2.contains
theorem EF.rf {S : SS} (h : Hp) : EF S h h := ⟨fun _ q => q, fun _ q => Or.inl q, fun _ _ _ _ => rfl, fun _ _ _ _ => rfl, fun _ _ _ _ => rfl, fun _ _ _ _ => rfl, Nat.le_refl _, Nat.le_refl _, rfl⟩
theorem EF.tr {S : SS} {h1 h2 h3 : Hp} (a : EF S h1 h2) (b : EF S h2 h3) : EF S h1 h3 :=
  ⟨fun x q => b.1 x (a.1 x q), fun x q => by
    rcases b.2.1 x q with q | q
    · exact a.2.1 x q
    · exact Or.inr q, fun g x q w => (b.2.2.1 g x (a.1 x q) w).trans (a.2.2.1 g x q w), fun g x q w => (b.2.2.2.1 g x (a.1 x q) w).trans (a.2.2.2.1 g x q w), fun x i q w => (b.2.2.2.2.1 x i (a.1 x q) w).trans (a.2.2.2.2.1 x i q w), fun x i q w => (b.2.2.2.2.2.1 x i (a.1 x q) w).trans (a.2.2.2.2.2.1 x i q w), Nat.le_trans b.2.2.2.2.2.2.1 a.2.2.2.2.2.2.1, Nat.le_trans b.2.2.2.2.2.2.2.1 a.2.2.2.2.2.2.2.1, b.2.2.2.2.2.2.2.2.trans a.2.2.2.2.2.2.2.2⟩
theorem nd_con {A B : List Nat} (s : A.all B.contains = true) {g : Nat} (w : B.contains g = false) : A.contains g = false := by
  cases h : A.contains g with
  | false => rfl
  | true =>
    have h1 : g ∈ A := by simpa using h
    have := List.all_eq_true.mp s g h1
    rw [this] at w; cases w
theorem nd_conA {A B : List Nat} (s : A.all B.contains = true) {a : Nat} (w : (B.all fun f => !saF f a) = true) : (A.all fun f => !saF f a) = true := by
  apply List.all_eq_true.mpr
  intro f hf
  have h1 := List.all_eq_true.mp s f hf
  exact List.all_eq_true.mp w f (by simpa using h1)
theorem EF.sub {A B : SS} {h h' : Hp} (e : EF A h h') (s : subS A B = true) : EF B h h' := by
  simp only [subS, Bool.and_eq_true] at s
  obtain ⟨⟨⟨⟨s1, s2⟩, s3⟩, s4⟩, s5⟩ := s
  refine ⟨e.1, fun x q => ?_, fun g x q w => e.2.2.1 g x q (nd_con s1 w), fun g x q w => e.2.2.2.1 g x q (nd_con s2 w), fun x i q w => e.2.2.2.2.1 x i q (nd_conA s3 w), fun x i q w => e.2.2.2.2.2.1 x i q (nd_conA s4 w), e.2.2.2.2.2.2⟩
  rcases e.2.1 x q with q | q
  · exact Or.inl q
  · exact Or.inr (List.all_eq_true.mp s5 _ (by simpa using q))
theorem EFc {A B : SS} {h hc r : Hp} (e : EF B h hc) (q : FXs r ∧ EF A hc r) (s : subS A B = true) : FXs r ∧ EF B h r := ⟨q.1, e.tr (q.2.sub s)⟩
theorem EFj {B : SS} {h hc r : Hp} (e : EF B h hc) (q : FXs r ∧ EF B hc r) : FXs r ∧ EF B h r := ⟨q.1, e.tr q.2⟩
theorem FX_sI {h h2 : Hp} {f a : Nat} {v : Int32} (x : FXs h) (e : h2 = sI h f a v) : FXs h2 := by subst e; exact x
theorem FX_sA {h h2 : Hp} {a j : Nat} {v : Int32} (x : FXs h) (e : h2 = sA h a j v) : FXs h2 := by subst e; exact x
theorem FX_sR {h h2 : Hp} {a j : Nat} {v : Option Nat} (x : FXs h) (e : h2 = sR h a j v) : FXs h2 := by subst e; exact x
theorem FX_nw {h h2 : Hp} {n z : Nat} (x : FXs h) (e : h2 = nw h n z) : FXs h2 := by
  subst e
  intro f o a q
  rw [gP_nw] at q
  split at q
  · cases q
  · exact x f o a q
theorem FX_sP {h h2 : Hp} {f a : Nat} {v : Option Nat} (x : FXs h) (e : h2 = sP h f a v) (k : ∀ b, v = some b → saF f b = true) : FXs h2 := by
  subst e
  intro g o b q
  rw [gP_sP] at q
  split at q
  · next c => rw [c.1]; exact k b q
  · exact x g o b q
theorem EF_sI {S : SS} {h hc h2 : Hp} {f a : Nat} {v : Int32} (e : EF S h hc) (q : h2 = sI hc f a v) (c : S.1.contains f = true) : EF S h h2 := by
  subst q
  refine e.tr ⟨fun _ q => q, fun _ q => Or.inl q, fun g x _ w => ?_, fun _ _ _ _ => rfl, fun _ _ _ _ => rfl, fun _ _ _ _ => rfl, Nat.le_refl _, Nat.le_refl _, rfl⟩
  rw [gI_sI, if_neg]
  rintro ⟨rfl, -⟩
  rw [c] at w; cases w
theorem EF_sP {S : SS} {h hc h2 : Hp} {f a : Nat} {v : Option Nat} (e : EF S h hc) (q : h2 = sP hc f a v) (c : S.2.1.contains f = true) : EF S h h2 := by
  subst q
  refine e.tr ⟨fun _ q => q, fun _ q => Or.inl q, fun _ _ _ _ => rfl, fun g x _ w => ?_, fun _ _ _ _ => rfl, fun _ _ _ _ => rfl, Nat.le_refl _, Nat.le_refl _, rfl⟩
  rw [gP_sP, if_neg]
  rintro ⟨rfl, -⟩
  rw [c] at w; cases w
theorem EF_sA {S : SS} {h hc h2 : Hp} {a j f : Nat} {v : Int32} (e : EF S h hc) (q : h2 = sA hc a j v) (c : S.2.2.1.contains f = true) (s : saF f a = true) : EF S h h2 := by
  subst q
  refine e.tr ⟨fun _ q => q, fun _ q => Or.inl q, fun _ _ _ _ => rfl, fun _ _ _ _ => rfl, fun x i _ w => ?_, fun _ _ _ _ => rfl, Nat.le_refl _, Nat.le_refl _, rfl⟩
  rw [gA_sA, if_neg]
  rintro ⟨rfl, -⟩
  have := List.all_eq_true.mp w f (by simpa using c)
  rw [s] at this; cases this
theorem EF_sR {S : SS} {h hc h2 : Hp} {a j f : Nat} {v : Option Nat} (e : EF S h hc) (q : h2 = sR hc a j v) (c : S.2.2.2.1.contains f = true) (s : saF f a = true) : EF S h h2 := by
  subst q
  refine e.tr ⟨fun _ q => q, fun _ q => Or.inl q, fun _ _ _ _ => rfl, fun _ _ _ _ => rfl, fun _ _ _ _ => rfl, fun x i _ w => ?_, Nat.le_refl _, Nat.le_refl _, rfl⟩
  rw [gR_sR, if_neg]
  rintro ⟨rfl, -⟩
  have := List.all_eq_true.mp w f (by simpa using c)
  rw [s] at this; cases this
theorem nd_Kd_lt {n : Nat} (h : nd_Kd n < 99) : n < 70000 := by
  by_cases c : n < 10000
  · omega
  · rw [nd_Kd, if_neg c] at h
    split at h <;> omega
theorem frN_cnt (n : Nat) (f : Nat → Bool) (x : Nat) (hx : f x = false) :
    (List.range n).countP (fun m => !(if m = x then true else f m)) + (if x < n then 1 else 0) = (List.range n).countP fun m => !f m := by
  induction n with
  | zero => rfl
  | succ n ih =>
    rw [List.range_succ, List.countP_append, List.countP_append, List.countP_singleton, List.countP_singleton]
    by_cases c : n = x
    · subst c
      rw [if_neg (Nat.lt_irrefl _)] at ih
      rw [if_pos (Nat.lt_succ_self _), if_pos rfl, hx, if_neg (by decide), if_pos (by decide)]
      omega
    · have e1 : (if x < n + 1 then 1 else 0) = if x < n then 1 else 0 := by
        by_cases c2 : x < n
        · rw [if_pos c2, if_pos (by omega)]
        · rw [if_neg c2, if_neg (by omega)]
      rw [e1, if_neg c]
      omega
theorem frN_nw {h : Hp} {n z : Nat} (hn : n < 70000) (fr : gL h n = false) : frN (nw h n z) + 1 = frN h := by
  have := frN_cnt 70000 (gL h) n fr
  rw [if_pos hn] at this
  exact this
theorem EF_nw {S : SS} {h hc h2 : Hp} {n z : Nat} (e : EF S h hc) (q : h2 = nw hc n z) (fr : gL hc n = false) (c : S.2.2.2.2.contains (nd_Kd n) = true) (hk : nd_Kd n < 99) (hz : z ≤ 20) (h3 : ¬ nd_Kd n = 23) : EF S h h2 := by
  have fn := frN_nw (z := z) (nd_Kd_lt hk) fr
  have n3 : ¬ n = 320 := fun q => h3 (by rw [q]; rfl)
  subst q
  have ne : ∀ x, gL hc x = true → ¬ x = n := fun x hx q => by rw [q, fr] at hx; cases hx
  refine e.tr ⟨fun x q => by rw [gL_nw]; split <;> first | rfl | exact q, fun x q => ?_, fun g x hx _ => by rw [gI_nw, if_neg (ne x hx)], fun g x hx _ => by rw [gP_nw, if_neg (ne x hx)], fun x i hx _ => by rw [gA_nw, if_neg (ne x hx)], fun x i hx _ => by rw [gR_nw, if_neg (ne x hx)], by rw [gC_nw]; omega, by rw [gZ_nw]; omega, funext fun j => by rw [gJ_nw, if_neg n3]⟩
  rw [gL_nw] at q
  split at q
  · next c2 => rw [c2]; exact Or.inr c
  · exact Or.inl q
theorem nd_on (x : Option Nat) : x = none ∨ ∃ a, x = some a := by
  cases x with
  | none => exact Or.inl rfl
  | some a => exact Or.inr ⟨a, rfl⟩
theorem sa_k1000 {n : Nat} (h1 : nd_Kd n = 24) (h2 : nd_Ln n = 6) : saF 1000 n = true := by simp [saF, h1, h2]
theorem sa_k1100 {n : Nat} (h1 : nd_Kd n = 20) (h2 : nd_Ln n = 6) : saF 1100 n = true := by simp [saF, h1, h2]
theorem sa_k1101 {n : Nat} (h1 : nd_Kd n = 20) (h2 : nd_Ln n = 6) : saF 1101 n = true := by simp [saF, h1, h2]
