/-! THE CLASS READS (6): tags, defaults, lists, choices -/
set_option maxRecDepth 100000
section Rg
variable {sb f n e e0 o F dd d j : Nat} {b : Nat → Nat} {τ : Tb}
/-- what reading by R comes to -/
def RdOK (F : Nat) (τ : Tb) (b : Nat → Nat) (f n : Nat) (R : Nat → Nat → Int32 → Hp → Option (Option Nat × Hp)) (j d : Nat) : Prop :=
  (∀ nm p dg h r, FXs h → R nm p dg h = some r → FXs r.2 ∧ EF SV_read h r.2) ∧
  ∀ (h : Hp) (nm t : Nat) (g : Option Nat) (dg : Int32) (sb a e o m u : Nat), CTy h τ j nm t → WFt τ j t → RS h sb f n b a e o m u → o + j ≤ 12 → dgO g dg →
    ∃ r h', R nm 300 dg h = some (r, h') ∧ RP h h' sb f e o m u τ r (rd b τ d t g a e m)
theorem RP.kp {h h' : Hp} {m u a' : Nat} {r : Option Nat} {v : Vt d} (q : RP h h' sb f e o m u τ r (some (v, a'))) : KP h h' sb m u τ v :=
  ⟨q.1, q.2.2.2.1, q.2.2.2.2.1, q.2.2.2.2.2.1, q.2.2.2.2.2.2.1, q.2.2.2.2.2.2.2.1⟩
theorem RP.of {h h' : Hp} {m u a' : Nat} {r : Option Nat} {v : Vt d} (e : r = some (sb + 10 + m)) (A : SrcA h' f a' e0 o) (k : KP h h' sb m u τ v) (ln : ∀ i, i < o → gA h' 301 i = gA h 301 i ∧ gA h' 302 i = gA h 302 i) : RP h h' sb f e0 o m u τ r (some (v, a')) :=
  ⟨k.1, e, A, k.2.1, k.2.2.1, k.2.2.2.1, k.2.2.2.2.1, k.2.2.2.2.2, ln⟩
/-- the state behind a value -/
theorem RS.nx {S : SS} {h h' : Hp} {a m u a' : Nat} {v : Vt d} (R : RS h sb f n b a e o m u) (hx : FXs h') (ef : EF S h h') (c1 : ([400, 404, 405, 406].all fun f => !S.2.1.contains f) = true) (c2 : (S.2.2.1.all fun f => !saF f 101) = true) (K : KP h h' sb m u τ v) (A : SrcA h' f a' e o) (l : a + oz d v ≤ a' ∧ a' ≤ e ∧ okM d m v) :
    RS h' sb f n b a' e o (m + sz d v) (u + oz d v) := by
  obtain ⟨hx0, p, B, s, A0, h3, h4, l1, l2, l3, l4⟩ := R
  obtain ⟨k1, k2, k3, k4, k5, k6⟩ := K
  exact ⟨hx, p.fr ef c1, B.fr p.1.2.2.2 ef c2, k1, A, k2, k3, l.2.1, l2, by omega, l.2.2.1⟩
/-- explicit tags -/
theorem tag_rd {h : Hp} {a m u nm t : Nat} {g : Option Nat} {dg : Int32} {R : Nat → Nat → Int32 → Hp → Option (Option Nat × Hp)} (RO : RdOK F τ b f n R j (d + 1)) (c : CTy h τ (j + 1) nm t) (w : WFt τ (j + 1) t) (k : tK τ t = 10) (hj : j < 200)
    (S : RS h sb f n b a e o m u) (ho : o + (j + 1) ≤ 12) (hg : dgO g dg) : ∃ r h', fX16_read F dd R nm 300 dg h = some (r, h') ∧ RP h h' sb f e o m u τ r (rd b τ (d + 1) t g a e m) := by
  have hb := S.2.2.1.1
  have l1 := S.2.2.2.2.2.2.2.1
  have l2 := S.2.2.2.2.2.2.2.2.1
  have s := S.2.2.2.1
  obtain ⟨w1, w2⟩ := w.tag k
  obtain ⟨al, c⟩ := c
  rcases c with ⟨k2, -⟩ | ⟨k2, -⟩ | ⟨k2, -⟩ | ⟨k2, -⟩ | ⟨k2, -⟩ | ⟨k2, -⟩ | ⟨k2, -⟩ | ⟨k2, c1, c2, c3, x, c4, c5⟩
  all_goals first | (exfalso; omega) | skip
  have hy : g.getD (tG τ t) ≤ 9 := by
    cases g with
    | none => exact w1
    | some y => exact hg.2
  have e13 : fX16_read F dd R nm 300 dg h = fX16_read_13 F dd R nm 300 (zI ↑(g.getD (tG τ t))) h := by
    unfold fX16_read
    cases g with
    | none => rw [if_pos (show dg = -1 from hg), c2]; rfl
    | some y =>
      have := hg.2
      rw [if_neg (show ¬ dg = -1 by rw [hg.1]; exact zn_m1 (by omega)), hg.1]; rfl
  rw [e13, rd_tag w k hj]
  generalize g.getD (tG τ t) = y at hy
  unfold fX16_read_13
  rw [c3]
  by_cases ce : tM τ t = true ∧ tK τ (tC τ t 0) ≠ 9
  · have : (!tM τ t || tK τ (tC τ t 0) == 9) = false := by rw [ce.1]; simpa using ce.2
    rw [if_pos ce, this, if_pos (show b2i false = 0 from rfl), c4, nn_s]
    obtain ⟨r, h', e1, p1⟩ := RO.2 h x (tC τ t 0) (some y) (zI y) sb a e o m u c5 w2 S (by omega) ⟨rfl, hy⟩
    rw [e1, ca_s]
    exact ⟨r, h', rfl, p1⟩
  · have : (!tM τ t || tK τ (tC τ t 0) == 9) = true := by
      cases z : tM τ t with
      | false => rfl
      | true =>
        have : tK τ (tC τ t 0) = 9 := by
          rcases Nat.decEq (tK τ (tC τ t 0)) 9 with z2 | z2
          · exact absurd ⟨z, z2⟩ ce
          · exact z2
        rw [this]; rfl
    rw [if_neg ce, this, if_neg (show ¬ b2i true = 0 by decide)]
    obtain ⟨v, h1, e1, q1⟩ := ent_ok (F := F) (d := dd) S.2.1 S.2.2.1 S.2.2.2.2.1 l1 l2 (show o < 12 by omega) (160 + y) (by omega)
    rw [show (160 : Int32) + zI ↑y = zI ↑(160 + y) from zn_add 160 y, e1, ca_s]
    obtain ⟨x1, ef1⟩ := eX4_enter F dd S.1 e1
    have s1 : StP h1 sb := s.fr2 ef1 (by decide) (by decide) (by decide)
    show ∃ r h', _ ∧ RP h h' sb f e o m u τ r (rT b _ [160 + y] a e)
    unfold rT
    cases hen : ent b (160 + y) a e with
    | none =>
      rw [hen] at q1
      rw [q1, if_pos rfl]
      unfold fX16_read_56
      rw [oc_n]
      exact ⟨_, h1, rfl, RPn s1 rfl⟩
    | some z =>
      obtain ⟨a1, e1', lo⟩ := z
      rw [hen] at q1
      obtain ⟨r1, A1, r2, r3, r4, r5, r6, r7, so1⟩ := q1
      rw [r1, if_neg (show ¬ (1 : Int32) = 0 by decide)]
      have S1 : RS h1 sb f n b a1 e1' (o + 1) m u := by
        obtain ⟨hx0, p, B, s, A0, h3, h4, l1, l2, l3, l4⟩ := S
        exact ⟨x1, p.fr ef1 (by decide), B.fr p.1.2.2.2 ef1 (by decide), s1, A1, (ef1.i _ s.2.1.1 (by decide)).trans h3, (ef1.i _ s.2.1.1 (by decide)).trans h4, r6, by omega, by omega, l4⟩
      rw [ef1.p 1602 al.1 (by decide), c4, nn_s]
      obtain ⟨r, h2, e2, p2⟩ := RO.2 h1 x (tC τ t 0) none (-1) sb a1 e1' (o + 1) m u (c5.fr (ef1.ty (by decide))) w2 S1 (by omega) rfl
      rw [e2, ca_s]
      obtain ⟨x2, ef2⟩ := RO.1 _ _ _ _ _ x1 e2
      unfold fX16_read_56
      have eT : rT b (fun a e => rd b τ (d + 1) (tC τ t 0) none a e m) [] a1 e1' = rd b τ (d + 1) (tC τ t 0) none a1 e1' m := rfl
      simp only [eT]
      cases hr : rd b τ (d + 1) (tC τ t 0) none a1 e1' m with
      | none =>
        rw [hr] at p2
        rw [p2.2, oc_n]
        exact ⟨_, h2, rfl, RPn p2.1 rfl⟩
      | some z =>
        obtain ⟨v2, a2⟩ := z
        rw [hr] at p2
        have le := rd_le _ _ _ _ _ _ _ _ r6 hr
        have S2 := S1.nx x2 ef2 (by decide) (by decide) p2.kp p2.2.2.1 le
        have kp2 := p2.kp
        obtain ⟨p3, p4, p5, p6, p7, p8, p9, p10, p11⟩ := p2
        obtain ⟨v3, h3, e3, q3⟩ := lea_ok (F := F) (d := dd) S2.2.1 S2.2.2.1 S2.2.2.2.2.1 le.2.1 (by omega) (show o < 12 by omega) lo (by rw [(p11 o (by omega)).1]; exact r2) (e0 := e) (by rw [(p11 o (by omega)).2]; exact r3)
        obtain ⟨x3, ef3⟩ := eX4_leave F dd x2 e3
        rw [p4, oc_s, e3, ca_s]
        have s3 : StP h3 sb := p3.fr2 ef3 (by decide) (by decide) (by decide)
        dsimp only
        cases hl : lea b a2 e1' lo with
        | none =>
          rw [hl] at q3
          rw [q3, if_pos rfl]
          exact ⟨_, h3, rfl, RPn s3 rfl⟩
        | some a3 =>
          rw [hl] at q3
          obtain ⟨t1, t2, t3, t4, t5, so3⟩ := q3
          rw [t1, if_neg (show ¬ (1 : Int32) = 0 by decide)]
          exact ⟨_, h3, rfl, RP.of rfl t2 ((kp2.so1 so1).so2 so3) (fun i hi => by rw [t3, (p11 i (by omega)).1, (p11 i (by omega)).2]; exact r4 i hi)⟩
end Rg
