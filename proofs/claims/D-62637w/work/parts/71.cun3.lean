/-! THE CLASS UNPACKS (4): groups, and all of it -/
set_option maxRecDepth 100000
section Ug
variable {sb f n F dd d j : Nat} {b : Nat → Nat} {τ : Tb}
def UnOK (F : Nat) (τ : Tb) (b : Nat → Nat) (f n : Nat) (R : Nat → Nat → Hp → Option (Option Nat × Hp)) (j d : Nat) : Prop :=
  (∀ nm p h r, FXs h → R nm p h = some r → FXs r.2 ∧ EF SV_unpack h r.2) ∧
  ∀ (h : Hp) (nm t sb p m u : Nat), CTy h τ j nm t → WFt τ j t → US h sb f n b p m u → ∃ r h', R nm 300 h = some (r, h') ∧ UP h h' sb f n m u τ r (up b (8 * n) τ true d t p m)
/-- unpacking inside of a group -/
def UL (h0 h : Hp) (sb f n : Nat) (b : Nat → Nat) (τ : Tb) (kd num : Int32) (m0 u0 p : Nat) {d : Nat} (l : List (Nat × Vt d)) : Prop :=
  GS h0 h sb τ kd num m0 u0 l ∧ US h sb f n b p (m0 + 1 + szs l) (u0 + ozs l) ∧ sameTy h0 h
theorem UL.ini {h : Hp} {p m u : Nat} {kd : Int32} (S : US h sb f n b p m u) (hm : m < 100) (d : Nat) : ∃ h2, fX3_make F dd sb kd 0 h = some (some (sb + 10 + m), h2) ∧ UL h h2 sb f n b τ kd 0 m u p ([] : List (Nat × Vt d)) := by
  obtain ⟨hx, P, B, s, A, h3, h4, l1, l2, l3⟩ := S
  obtain ⟨h2, e2, G, ef⟩ := GS.mk0 (F := F) (dd := dd) (τ := τ) (kd := kd) (num := 0) s hx h3 h4 hm d
  exact ⟨h2, e2, G, ⟨G.1.1, P.fr ef (by decide), B.fr P.1.2.2.2 ef (by decide), G.1.2, A.fr P.1.1 ef (by decide), G.2.1.1, G.2.1.2, by rw [ozs_nil]; omega, l2, by rw [szs_nil]; omega⟩, ef.ty (by decide)⟩
/-- a child was unpacked and is put in -/
theorem UL.kid {S : SS} {h0 h h' : Hp} {m0 u0 p p1 : Nat} {kd num : Int32} {l : List (Nat × Vt d)} (L : UL h0 h sb f n b τ kd num m0 u0 p l) (hx : FXs h') (ef : EF S h h') (c1 : ([400, 404, 405, 406].all fun f => !S.2.1.contains f) = true) (c2 : (S.2.2.1.all fun f => !saF f 101) = true) (c3 : noTy S = true)
    {v : Vt d} (K : KP h h' sb (m0 + 1 + szs l) (u0 + ozs l) τ v) (A : BtA h' f n p1) (le : p + 8 * oz d v ≤ p1 ∧ p1 ≤ 8 * n ∧ okM d (m0 + 1 + szs l) v) (k : Nat) :
    gI h' 1701 (sb + 10 + m0) = num ∧ ∃ h2, fX17_add F dd (sb + 10 + m0) (sb + 10 + (m0 + 1 + szs l)) (zI k) h' = some h2 ∧ gI h2 1701 (sb + 10 + m0) = num ∧ ∀ x, UL h0 (sI h2 1701 (sb + 10 + m0) x) sb f n b τ kd x m0 u0 p1 (l ++ [(k, v)]) := by
  obtain ⟨G, R, st⟩ := L
  obtain ⟨y1, P0, B0, s0, A0, h3, h4, l1, l2, l3⟩ := R
  obtain ⟨h2, e2, G2, ef2⟩ := G.kid (F := F) (dd := dd) hx ef.1 K k
  refine ⟨((K.2.2.2.2.1 m0 (by omega) 1701).1).trans G.2.2.2.2.1.2.2.1, h2, e2, G2.2.2.2.2.1.2.2.1, fun x => ?_⟩
  have G3 := G2.nu (x := x)
  have P := P0.fr ef c1
  have B := B0.fr P0.1.2.2.2 ef c2
  have P2 := P.fr ef2 (by decide)
  have ns : ¬ 300 = sb + 10 + m0 := by have := s0.1; omega
  have A2 := A.fr P.1.1 ef2 (by decide)
  refine ⟨G3, ⟨G3.1.1, P2, (show Buf h2 f n b from B.fr P.1.2.2.2 ef2 (by decide)), G3.1.2, ⟨?_, ?_⟩, G3.2.1.1, G3.2.1.2, ?_, le.2.1, ?_⟩, (st.tr (ef.ty c3)).tr ((ef2.ty (by decide)).tr (sameTy_sI (by decide)))⟩
  · rw [gI_sI, if_neg (by omega)]; exact A2.1
  · rw [gI_sI, if_neg (by omega)]; exact A2.2
  · rw [ozs_app, ozs_cons, ozs_nil]; dsimp only; omega
  · rw [szs_app, szs_cons, szs_nil]; have := le.2.2.1; dsimp only; omega
/-- what is unpacked moves on -/
theorem tk_le {T p k v p1 : Nat} (h : tk b T p k = some (v, p1)) : p1 = p + k ∧ p1 ≤ T := by
  unfold tk at h
  split at h
  · cases h; omega
  · cases h
theorem rng_le {T N p v p1 : Nat} (h : rng b T N p = some (v, p1)) : p ≤ p1 ∧ p1 ≤ T := by
  rw [rng_eq] at h
  split at h
  · next c => cases h; have := rgp_le N p; omega
  · cases h
theorem cnt_le {T q p p1 : Nat} {x : Int32} (h : cnt b T τ q p = some (x, p1)) : p ≤ p1 ∧ p1 ≤ T := by
  unfold cnt rngI at h
  split at h
  · split at h
    · cases h
    · next z => cases h; exact rng_le z
  · split at h
    · cases h
    · next z =>
      split at h
      · cases h
        have := tk_le z
        have a8 : p ≤ al8 p := by unfold al8; omega
        omega
      · cases h
theorem mks_le {T q : Nat} : ∀ (r k p : Nat) (l : List Bool) (p1 : Nat), p ≤ T → mks b T τ q r k p = some (l, p1) → p ≤ p1 ∧ p1 ≤ T := by
  intro r
  induction r with
  | zero => intro k p l p1 hp h; cases h; omega
  | succ r ih =>
    intro k p l p1 hp h
    unfold mks at h
    split at h
    · split at h
      · cases h
      · next z => cases h; exact ih _ _ _ _ hp z
    · split at h
      · split at h
        · cases h
        · next z => cases h; have := ih _ _ _ _ (by omega) z; omega
      · cases h
theorem up_le {T : Nat} {st : Bool} : ∀ (d t p m : Nat) (v : Vt d) (p' : Nat), p ≤ T → up b T τ st d t p m = some (v, p') → p + 8 * oz d v ≤ p' ∧ p' ≤ T ∧ okM d m v := by
  intro d
  induction d with
  | zero => intro t p m v p' _ h; cases h
  | succ d ih =>
    intro t p m v p' hp h
    have hS : ∀ (q : Nat) (l : List Bool) (k p m : Nat) (ks : List (Nat × Vt d)) (p2 : Nat), p ≤ T → m ≤ 100 → upS τ (up b T τ st d) (dfl τ d) q l k p m = some (ks, p2) → p + 8 * ozs ks ≤ p2 ∧ p2 ≤ T ∧ m + szs ks ≤ 100 := by
      intro q l
      induction l with
      | nil => intro k p m ks p2 hp hm h; cases h; rw [ozs_nil, szs_nil]; omega
      | cons x l ihl =>
        intro k p m ks p2 hp hm h
        unfold upS at h
        split at h
        · split at h
          · cases h
          · next z =>
            obtain ⟨z1, z2, z3, z4⟩ := ih _ _ _ _ _ hp z
            split at h
            · cases h
            · next y =>
              cases h
              obtain ⟨y1, y2, y3⟩ := ihl _ _ _ _ _ z2 z3 y
              rw [ozs_cons, szs_cons]
              dsimp only
              omega
        · split at h
          · cases h
          · split at h
            · split at h
              · split at h
                · cases h
                · next y =>
                  cases h
                  obtain ⟨y1, y2, y3⟩ := ihl _ _ _ _ _ hp (by omega) y
                  have z1 : sz d (dfl τ d (tC τ q k) (tD τ q k)) ≤ 1 ∧ oz d (dfl τ d (tC τ q k) (tD τ q k)) = 0 := by
                    cases d with
                    | zero => exact ⟨Nat.zero_le _, rfl⟩
                    | succ d => exact ⟨Nat.le_of_eq (dfl_sz d _ _).1, (dfl_sz d _ _).2⟩
                  rw [ozs_cons, szs_cons]
                  dsimp only
                  omega
              · cases h
            · exact ihl _ _ _ _ _ hp hm h
    have hL : ∀ (q r k p m : Nat) (ks : List (Nat × Vt d)) (p2 : Nat), p ≤ T → m ≤ 100 → upL τ (up b T τ st d) q r k p m = some (ks, p2) → p + 8 * ozs ks ≤ p2 ∧ p2 ≤ T ∧ m + szs ks ≤ 100 := by
      intro q r
      induction r with
      | zero => intro k p m ks p2 hp hm h; cases h; rw [ozs_nil, szs_nil]; omega
      | succ r ihr =>
        intro k p m ks p2 hp hm h
        unfold upL at h
        split at h
        · cases h
        · next z =>
          obtain ⟨z1, z2, z3, z4⟩ := ih _ _ _ _ _ hp z
          split at h
          · cases h
          · next y =>
            cases h
            obtain ⟨y1, y2, y3⟩ := ihr _ _ _ _ _ z2 z3 y
            rw [ozs_cons, szs_cons]
            dsimp only
            omega
    unfold up at h
    split at h
    · next hm =>
      split at h
      · split at h
        · cases h
        · next z =>
          have z1 := rng_le z
          split at h
          · cases h
          · split at h
            · cases h
            · next y =>
              cases h
              obtain ⟨y1, y2, y3, y4⟩ := ih _ _ _ _ _ z1.2 y
              refine ⟨?_, y2, ?_, ?_⟩
              · rw [oz_mk, ozs_cons, ozs_nil]; simp only [List.length_nil]; omega
              · rw [sz_mk, szs_cons, szs_nil]; dsimp only; omega
              · rw [sz_mk]; omega
      · split at h
        · split at h
          · cases h
          · next z =>
            have z1 := mks_le _ _ _ _ _ hp z
            split at h
            · cases h
            · next y =>
              cases h
              obtain ⟨y1, y2, y3⟩ := hS _ _ _ _ _ _ _ z1.2 (by omega) y
              refine ⟨?_, y2, ?_, ?_⟩
              · rw [oz_mk]; simp only [List.length_nil]; omega
              · rw [sz_mk]; omega
              · rw [sz_mk]; omega
        · split at h
          · split at h
            · cases h
            · next z =>
              have z1 := cnt_le z
              split at h
              · cases h
              · next y =>
                cases h
                obtain ⟨y1, y2, y3⟩ := hL _ _ _ _ _ _ _ z1.2 (by omega) y
                refine ⟨?_, y2, ?_, ?_⟩
                · rw [oz_mk]; simp only [List.length_nil]; omega
                · rw [sz_mk]; omega
                · rw [sz_mk]; omega
          · split at h
            · split at h
              · cases h
              · next z =>
                have z1 := cnt_le z
                have fo : ∀ (x : Int32) (P : Nat), p ≤ P → (if P + 8 * x.toNatClampNeg ≤ T then some ((mkV (bas τ 200 t) x (octs b P x.toNatClampNeg) [] : Vt (d + 1)), P + 8 * x.toNatClampNeg) else none) = some (v, p') → p + 8 * oz (d + 1) v ≤ p' ∧ p' ≤ T ∧ okM (d + 1) m v := by
                  intro x P hP h
                  split at h
                  · next y =>
                    cases h
                    refine ⟨?_, y, ?_, ?_⟩
                    · rw [oz_mk, ozs_nil]
                      simp only [octs, List.length_map, List.length_range]
                      omega
                    · rw [sz_mk, szs_nil]; omega
                    · rw [sz_mk]; omega
                  · cases h
                have a8 : ∀ x : Nat, x ≤ al8 x := fun x => by unfold al8; omega
                split at h
                · exact fo _ _ (Nat.le_trans z1.1 (a8 _)) h
                · exact fo _ _ z1.1 h
            · have fin : ∀ (x : Int32) (p1 : Nat), p ≤ p1 → p1 ≤ T → some ((mkV (bas τ 200 t) x [] [] : Vt (d + 1)), p1) = some (v, p') → p + 8 * oz (d + 1) v ≤ p' ∧ p' ≤ T ∧ okM (d + 1) m v := by
                intro x p1 h1 h2 h3
                cases h3
                refine ⟨?_, h2, ?_, ?_⟩
                · rw [oz_mk, ozs_nil]; simp only [List.length_nil]; omega
                · rw [sz_mk, szs_nil]; omega
                · rw [sz_mk]; omega
              split at h
              · exact fin _ _ (Nat.le_refl _) hp h
              · split at h
                · split at h
                  · cases h
                  · next z => have := tk_le z; exact fin _ _ (by omega) this.2 h
                · split at h
                  · split at h
                    · cases h
                    · next z =>
                      unfold rngI at z
                      split at z
                      · cases z
                      · next y => cases z; have := rng_le y; exact fin _ _ this.1 this.2 h
                  · split at h
                    · cases h
                    · next z =>
                      have z1 := tk_le z
                      have a8 : p ≤ al8 p := by unfold al8; omega
                      split at h
                      · next c => exact fin _ _ (by omega) c.2.1 h
                      · cases h
    · cases h
end Ug
