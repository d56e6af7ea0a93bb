/-! BITS of Int32; THE CLASS READS (7): lists, choices, sequences -/
set_option maxRecDepth 100000
theorem smod_tab : ((List.range 32).all fun k => decide (((zI (k : Nat)).toBitVec.smod 32).toNat = k)) = true := by decide +kernel
theorem smod_ok {k : Nat} (hk : k < 32) : ((zI k).toBitVec.smod 32).toNat = k := of_decide_eq_true (List.all_eq_true.mp smod_tab k (List.mem_range.mpr hk))
theorem shr_lo {z : Int} (k : Nat) (h1 : -2147483648 ≤ z) (h2 : z ≤ 2147483647) : -2147483648 ≤ z / 2 ^ k ∧ z / 2 ^ k ≤ 2147483647 := by
  have hp : (0 : Int) < 2 ^ k := Int.pow_pos (by decide)
  constructor
  · rw [Int.le_ediv_iff_mul_le hp]
    have : (1 : Int) ≤ 2 ^ k := by omega
    have := Int.mul_le_mul_of_nonneg_left this (show (0 : Int) ≤ 2147483648 by decide)
    omega
  · have := Int.ediv_le_ediv hp h2
    have h3 : (2147483647 : Int) / 2 ^ k ≤ 2147483647 := Int.ediv_le_self _ (by decide)
    omega
theorem zI_shr {z : Int} {k : Nat} (h1 : -2147483648 ≤ z) (h2 : z ≤ 2147483647) (hk : k < 32) : zI z >>> zI k = zI (z / 2 ^ k) := by
  apply Int32.toInt_inj.mp
  rw [zI_toInt (shr_lo k h1 h2).1 (shr_lo k h1 h2).2]
  show (BitVec.sshiftRight' (zI z).toBitVec ((zI k).toBitVec.smod 32)).toInt = _
  rw [BitVec.toInt_sshiftRight', smod_ok hk]
  show (zI z).toInt >>> k = _
  rw [zI_toInt h1 h2, Int.shiftRight_eq_div_pow]
  norm_cast
theorem zn_shr {a k : Nat} (ha : a < 2147483648) (hk : k < 32) : zI a >>> zI k = zI ↑(a / 2 ^ k) := by
  rw [zI_shr (by omega) (by omega) hk]
  congr 1
theorem zI_shl {z : Int} {k : Nat} (hk : k < 32) : zI z <<< zI k = zI (z * 2 ^ k) := by
  apply Int32.toBitVec_inj.mp
  show (zI z).toBitVec <<< ((zI k).toBitVec.smod 32) = (zI (z * 2 ^ k)).toBitVec
  rw [BitVec.shiftLeft_eq', smod_ok hk, BitVec.shiftLeft_eq_mul_twoPow]
  show BitVec.ofInt 32 z * BitVec.twoPow 32 k = BitVec.ofInt 32 (z * 2 ^ k)
  rw [BitVec.ofInt_mul, show (2 : Int) ^ k = ((2 ^ k : Nat) : Int) by norm_cast, BitVec.ofInt_natCast]
  congr 1
  apply BitVec.eq_of_toNat_eq
  rw [BitVec.toNat_twoPow, BitVec.toNat_ofNat]
theorem zn_31 {g : Nat} (hg : g < 32) : zI g &&& 31 = zI g := by
  rw [show (31 : Int32) = zI ↑(31 : Nat) from rfl, zI_and, show (31 : Nat) = 2 ^ 5 - 1 from rfl, Nat.and_two_pow_sub_one_eq_mod, Nat.mod_eq_of_lt (by omega)]
theorem tst_bit {S g : Nat} (hS : S < 2147483648) (hg : g < 32) : ((zI S >>> (zI g &&& 31)) &&& 1 = 1) ↔ S.testBit g = true := by
  rw [zn_31 hg, zn_shr hS hg, show (1 : Int32) = zI ↑(1 : Nat) from rfl, zI_and, Nat.and_one_is_mod]
  have := Nat.div_le_self S (2 ^ g)
  rw [zn_eq (by omega) (by omega), Nat.testBit_eq_decide_div_mod_eq, decide_eq_true_eq]
theorem and_bit (S g : Nat) : S &&& 2 ^ g ≠ 0 ↔ S.testBit g = true := by
  constructor
  · intro h
    obtain ⟨i, hi⟩ := Nat.exists_testBit_of_ne_zero h
    rw [Nat.testBit_and, Bool.and_eq_true, Nat.testBit_two_pow, decide_eq_true_eq] at hi
    rw [hi.2]; exact hi.1
  · intro h h0
    have : (S &&& 2 ^ g).testBit g = true := by rw [Nat.testBit_and, h, Nat.testBit_two_pow_self]; rfl
    rw [h0, Nat.zero_testBit] at this
    cases this
theorem tgC_tab : ((List.range 256).all fun x => (decide (tgC x = -1) || (decide (0 ≤ tgC x) && decide (tgC x ≤ 29))) && (decide (bitO x = 0) || (decide (0 ≤ tgC x) && decide (bitO x = 2 ^ (tgC x).toNat)))) = true := by decide +kernel
theorem tgC_ok {x : Nat} (hx : x < 256) : (tgC x = -1 ∨ (0 ≤ tgC x ∧ tgC x ≤ 29)) ∧ (bitO x = 0 ∨ (0 ≤ tgC x ∧ bitO x = 2 ^ (tgC x).toNat)) := by
  have := List.all_eq_true.mp tgC_tab x (List.mem_range.mpr hx)
  simpa using this
/-- the class's test of a tag against the spec's -/
theorem tgC_bit {S x : Nat} (hS : S < 2 ^ 30) (hx : x < 256) (h0 : bitO x ≠ 0) : (¬ zI (tgC x) = -1) ∧ ((((zI S >>> (zI (tgC x) &&& 31)) &&& 1) = 1) ↔ S &&& bitO x ≠ 0) := by
  obtain ⟨q1, q2⟩ := tgC_ok hx
  rcases q2 with q2 | ⟨q2, q3⟩
  · exact absurd q2 h0
  · obtain ⟨g, hg⟩ : ∃ g : Nat, tgC x = g := ⟨(tgC x).toNat, by omega⟩
    rw [hg] at q1 q3 ⊢
    refine ⟨zn_neg (z := -1) (by omega) (by omega) (by decide) (by decide), ?_⟩
    rw [tst_bit (by omega) (by omega), q3, and_bit]
    rfl
section Rg2
variable {sb f n e e0 o F dd d j : Nat} {b : Nat → Nat} {τ : Tb}
theorem ca_id {α : Type} (x : Option (α × Hp)) : ca x (fun v h => some (v, h)) = x := by
  cases x <;> rfl
/-- a default is made -/
theorem giv_df {h : Hp} {x : Int32} : ∀ {j nm t dd : Nat}, CTy h τ j nm t → WFt τ j t → j ≤ dd → j ≤ 200 → (tK τ (bas τ 200 t) = 1 ∨ tK τ (bas τ 200 t) = 2) → ∃ d1, v_given F dd nm sb x h = fX3_make F d1 sb (zI (tK τ (bas τ 200 t))) x h := by
  intro j
  induction j with
  | zero => intro nm t dd c; exact c.elim
  | succ j ih =>
    intro nm t dd c w hd hj hk
    cases dd with
    | zero => omega
    | succ dd =>
      have w0 := w
      obtain ⟨al, c⟩ := c
      by_cases k10 : tK τ t = 10
      · rcases c with ⟨k2, -⟩ | ⟨k2, -⟩ | ⟨k2, -⟩ | ⟨k2, -⟩ | ⟨k2, -⟩ | ⟨k2, -⟩ | ⟨k2, -⟩ | ⟨k2, c1, c2, c3, x, c4, c5⟩
        all_goals first | (exfalso; omega) | skip
        have w2 := (w.tag k10).2
        rw [bas_tag w k10 (by omega)] at hk ⊢
        obtain ⟨d1, e1⟩ := ih c5 w2 (show j ≤ dd by omega) (by omega) hk
        refine ⟨d1, ?_⟩
        unfold v_given
        rw [if_neg (by omega), if_neg (by omega), if_neg (by omega), if_neg (by omega), if_neg (by omega), if_pos c1]
        unfold fX16_given
        rw [c4, nn_s, ca_id, e1]
      · rw [bas_ne k10] at hk ⊢
        refine ⟨dd, ?_⟩
        rcases c with ⟨k, c⟩ | ⟨k, c⟩ | ⟨k, c⟩ | ⟨k2, -⟩ | ⟨k2, -⟩ | ⟨k2, -⟩ | ⟨k2, -⟩ | ⟨k2, -⟩
        all_goals first | (exfalso; omega) | skip
        all_goals
          unfold v_given
          rw [if_pos c.1]
          unfold fX9_given
          rw [ca_id, c.2.1, k]
          rfl
theorem GS.so1 {h0 h1 h : Hp} {m0 u0 : Nat} {kd num : Int32} {l : List (Nat × Vt d)} (s : SO h0 h1) (G : GS h1 h sb τ kd num m0 u0 l) : GS h0 h sb τ kd num m0 u0 l := by
  obtain ⟨⟨g1, g2⟩, ⟨g3, g4⟩, g5, g6, ⟨g7, g8, g9, g10⟩, g11⟩ := G
  exact ⟨⟨g1, g2⟩, ⟨g3, g4⟩, g5, (s.pf g2.1).tr (Nat.le_refl _) g6, ⟨g7, g8, g9, g10⟩, fun q hq => (g11 q hq).trans (s.2.2.2.2 _ _ (by have := g2.1; omega) (by have := g2.1; omega))⟩
/-- the end of a group -/
def fnG (b : Nat → Nat) (P : Nat → Bool) (q e : Nat) (lo : Bool) {d : Nat} (l : List (Nat × Vt d)) (x : Option (List (Nat × Vt d) × Nat)) : Option (Vt (d + 1) × Nat) := match x with
  | none => none
  | some (ks, a2) => if P (l.length + ks.length) = true then (match lea b a2 e lo with
    | none => none
    | some a3 => some (mkV q (Int32.ofNat (l.length + ks.length)) [] (l ++ ks), a3)) else none
theorem fnG_c {P : Nat → Bool} {q e k : Nat} {lo : Bool} {l : List (Nat × Vt d)} {v : Vt d} (x : Option (List (Nat × Vt d) × Nat)) :
    fnG b P q e lo l (match x with | none => none | some (l', a2) => some ((k, v) :: l', a2)) = fnG b P q e lo (l ++ [(k, v)]) x := by
  cases x with
  | none => rfl
  | some z =>
    obtain ⟨ks, a2⟩ := z
    have e1 : l.length + ((k, v) :: ks).length = (l ++ [(k, v)]).length + ks.length := by simp; omega
    have e2 : l ++ (k, v) :: ks = l ++ [(k, v)] ++ ks := by simp
    show (if P (l.length + ((k, v) :: ks).length) = true then _ else _) = (if P ((l ++ [(k, v)]).length + ks.length) = true then _ else _)
    rw [e1, e2]
/-- reading inside of a group -/
def LPs (h0 h : Hp) (sb f n : Nat) (b : Nat → Nat) (τ : Tb) (kd num : Int32) (m0 u0 a e e0 o : Nat) (lo : Bool) {d : Nat} (l : List (Nat × Vt d)) : Prop :=
  GS h0 h sb τ kd num m0 u0 l ∧ RS h sb f n b a e (o + 1) (m0 + 1 + szs l) (u0 + ozs l) ∧ sameTy h0 h ∧ (gA h 301 o = -2 ↔ lo = true) ∧ gA h 302 o = zI ↑(f + e0) ∧ ∀ i, i < o → gA h 301 i = gA h0 301 i ∧ gA h 302 i = gA h0 302 i
theorem LPs.ini {h : Hp} {a m u x : Nat} {kd : Int32} (S : RS h sb f n b a e0 o m u) (ho : o < 12) (hx : x < 256) (d : Nat) :
    ∃ v h1, fX4_enter F dd 300 (zI x) h = some (v, h1) ∧ StP h1 sb ∧ gP h1 404 300 = some sb ∧ (match ent b x a e0 with
      | none => v = 0
      | some (a1, e1, lo) => v = 1 ∧ if m < 100 then ∃ h2, fX3_make F dd sb kd 0 h1 = some (some (sb + 10 + m), h2) ∧ LPs h h2 sb f n b τ kd 0 m u a1 e1 e0 o lo ([] : List (Nat × Vt d))
        else fX3_make F dd sb kd 0 h1 = some (none, h1)) := by
  have hb := S.2.2.1.1
  obtain ⟨hx0, p, B, s, A0, h3, h4, l1, l2, l3, l4⟩ := S
  obtain ⟨v, h1, e1, q1⟩ := ent_ok (F := F) (d := dd) p B A0 l1 l2 ho x hx
  obtain ⟨x1, ef1⟩ := eX4_enter F dd hx0 e1
  have s1 : StP h1 sb := s.fr2 ef1 (by decide) (by decide) (by decide)
  refine ⟨v, h1, e1, s1, (p.fr ef1 (by decide)).2.2.1, ?_⟩
  cases hen : ent b x a e0 with
  | none => rw [hen] at q1; exact q1
  | some z =>
    obtain ⟨a1, e1', lo⟩ := z
    rw [hen] at q1
    obtain ⟨r1, A1, r2, r3, r4, r5, r6, r7, so1⟩ := q1
    refine ⟨r1, ?_⟩
    have h31 : gI h1 303 sb = zI m := (ef1.i _ s.2.1.1 (by decide)).trans h3
    have h41 : gI h1 304 sb = zI u := (ef1.i _ s.2.1.1 (by decide)).trans h4
    by_cases hm : m < 100
    · rw [if_pos hm]
      obtain ⟨h2, e2, G, ef2⟩ := GS.mk0 (F := F) (dd := dd) (τ := τ) (kd := kd) (num := 0) s1 x1 h31 h41 hm d
      have p2 := (p.fr ef1 (by decide)).fr ef2 (by decide)
      have ar : ∀ y i, (y = 301 ∨ y = 302) → gA h2 y i = gA h1 y i := by
        intro y i hy
        rcases hy with hy | hy
        · rw [hy]; exact ef2.a i (ef1.l p.1.2.1) (by decide)
        · rw [hy]; exact ef2.a i (ef1.l p.1.2.2.1) (by decide)
      refine ⟨h2, e2, G.so1 so1, ⟨G.1.1, p2, (B.fr p.1.2.2.2 ef1 (by decide)).fr (ef1.l p.1.2.2.2) ef2 (by decide), G.1.2, A1.fr (ef1.l p.1.1) ef2 (by decide), G.2.1.1, G.2.1.2, r6, by omega, ?_, ?_⟩, (ef1.ty (by decide)).tr (ef2.ty (by decide)), ?_, ?_, fun i hi => ?_⟩
      · rw [ozs_nil]; omega
      · rw [szs_nil]; omega
      · rw [ar _ _ (Or.inl rfl)]; exact r2
      · rw [ar _ _ (Or.inr rfl)]; exact r3
      · rw [ar _ _ (Or.inl rfl), ar _ _ (Or.inr rfl)]; exact r4 i hi
    · rw [if_neg hm, make_no h31 (by omega) (by omega)]
/-- a child was read and is put in -/
theorem LPs.kid {S : SS} {h0 h h' : Hp} {m0 u0 a a1 : Nat} {kd num : Int32} {lo : Bool} {l : List (Nat × Vt d)} (L : LPs h0 h sb f n b τ kd num m0 u0 a e e0 o lo l) (hx : FXs h') (ef : EF S h h') (c1 : ([400, 404, 405, 406].all fun f => !S.2.1.contains f) = true) (c2 : (S.2.2.1.all fun f => !saF f 101) = true) (c3 : noTy S = true)
    {v : Vt d} (K : KP h h' sb (m0 + 1 + szs l) (u0 + ozs l) τ v) (A : SrcA h' f a1 e (o + 1)) (ln : ∀ i, i < o + 1 → gA h' 301 i = gA h 301 i ∧ gA h' 302 i = gA h 302 i) (le : a + oz d v ≤ a1 ∧ a1 ≤ e ∧ okM d (m0 + 1 + szs l) v) (k : Nat) :
    gI h' 1701 (sb + 10 + m0) = num ∧ ∃ h2, fX17_add F dd (sb + 10 + m0) (sb + 10 + (m0 + 1 + szs l)) (zI k) h' = some h2 ∧ gI h2 1701 (sb + 10 + m0) = num ∧ ∀ x, LPs h0 (sI h2 1701 (sb + 10 + m0) x) sb f n b τ kd x m0 u0 a1 e e0 o lo (l ++ [(k, v)]) := by
  obtain ⟨G, R, st, L1, L2, L3⟩ := L
  have R2 := R.nx hx ef c1 c2 K A le
  obtain ⟨h2, e2, G2, ef2⟩ := G.kid (F := F) (dd := dd) hx ef.1 K k
  refine ⟨((K.2.2.2.2.1 m0 (by omega) 1701).1).trans G.2.2.2.2.1.2.2.1, h2, e2, G2.2.2.2.2.1.2.2.1, fun x => ?_⟩
  have G3 := G2.nu (x := x)
  obtain ⟨y1, p, B, s, A0, h3, h4, l1, l2, l3, l4⟩ := R2
  have p2 := p.fr ef2 (by decide)
  have ns : ¬ 300 = sb + 10 + m0 := by have := s.1; omega
  have ar : ∀ y i, (y = 301 ∨ y = 302) → gA (sI h2 1701 (sb + 10 + m0) x) y i = gA h' y i := by
    intro y i hy
    rcases hy with hy | hy
    · rw [hy]; exact ef2.a i p.1.2.1 (by decide)
    · rw [hy]; exact ef2.a i p.1.2.2.1 (by decide)
  have A2 := A.fr p.1.1 ef2 (by decide)
  refine ⟨G3, ⟨G3.1.1, p2, (show Buf h2 f n b from B.fr p.1.2.2.2 ef2 (by decide)), G3.1.2, ⟨?_, ?_, ?_⟩, G3.2.1.1, G3.2.1.2, l1, l2, ?_, ?_⟩, (st.tr (ef.ty c3)).tr ((ef2.ty (by decide)).tr (sameTy_sI (by decide))), ?_, ?_, fun i hi => ?_⟩
  · rw [gI_sI, if_neg (by omega)]; exact A2.1
  · rw [gI_sI, if_neg (by omega)]; exact A2.2.1
  · rw [gI_sI, if_neg (by omega)]; exact A2.2.2
  · rw [ozs_app, ozs_cons, ozs_nil]; dsimp only; omega
  · rw [szs_app, szs_cons, szs_nil]; dsimp only; omega
  · rw [ar _ _ (Or.inl rfl), (ln o (by omega)).1]; exact L1
  · rw [ar _ _ (Or.inr rfl), (ln o (by omega)).2]; exact L2
  · rw [ar _ _ (Or.inl rfl), ar _ _ (Or.inr rfl), (ln i (by omega)).1, (ln i (by omega)).2]; exact L3 i hi
/-- leaving a group -/
theorem LPs.end {h0 h : Hp} {m0 u0 a q : Nat} {kd num : Int32} {lo : Bool} {l : List (Nat × Vt d)} (L : LPs h0 h sb f n b τ kd num m0 u0 a e e0 o lo l) (ho : o < 12) (hk : kd = zI (tK τ q)) :
    ∃ v h', fX4_leave F dd 300 h = some (v, h') ∧ StP h' sb ∧ (match lea b a e lo with
      | none => v = 0
      | some a3 => v = 1 ∧ sameTy h0 h' ∧ gI h' 1701 (sb + 10 + m0) = num ∧ RP h0 h' sb f e0 o m0 u0 τ (some (sb + 10 + m0)) (some (mkV q num [] l, a3))) := by
  obtain ⟨G, R, st, L1, L2, L3⟩ := L
  obtain ⟨hx0, p, B, s, A0, h3, h4, l1, l2, l3, l4⟩ := R
  obtain ⟨v, h', e1, q1⟩ := lea_ok (F := F) (d := dd) p B A0 l1 l2 ho lo L1 L2
  obtain ⟨x1, ef1⟩ := eX4_leave F dd hx0 e1
  refine ⟨v, h', e1, s.fr2 ef1 (by decide) (by decide) (by decide), ?_⟩
  cases hl : lea b a e lo with
  | none => rw [hl] at q1; exact q1
  | some a3 =>
    rw [hl] at q1
    obtain ⟨t1, t2, t3, t4, t5, so3⟩ := q1
    refine ⟨t1, st.tr (ef1.ty (by decide)), (so3.2.2.2.1 _ _ (by have := s.1; omega)).trans G.2.2.2.2.1.2.2.1, RP.of rfl t2 ((G.fin hk).so2 so3) (fun i hi => by rw [t3]; exact L3 i hi)⟩
end Rg2
