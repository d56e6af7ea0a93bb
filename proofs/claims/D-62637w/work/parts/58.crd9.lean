/-! THE CLASS READS (9): choices, sequences, and all of it -/
set_option maxRecDepth 100000
section Rg4
variable {sb f n e e0 o F dd d j : Nat} {b : Nat → Nat} {τ : Tb}
theorem alt_0 {q : Nat} : ∀ (r k : Nat), alt τ q 0 r k = none := by
  intro r
  induction r with
  | zero => intro k; rfl
  | succ r ih => intro k; rw [alt, Nat.and_zero, if_neg (fun w => w rfl)]; exact ih _
/-- the class's tag at a place, and the spec's -/
def tgH (b : Nat → Nat) (a e : Nat) (x : Int32) : Prop := (x = -1 ∧ bitA b a e = 0) ∨ (a < e ∧ b a < 256 ∧ x = zI (tgC (b a)) ∧ ¬ x = -1)
theorem tgH_of {h : Hp} {a m u : Nat} (S : RS h sb f n b a e o m u) : ∃ x, fX4_tag F dd 300 h = some (x, h) ∧ tgH b a e x := by
  have l1 := S.2.2.2.2.2.2.2.1
  have l2 := S.2.2.2.2.2.2.2.2.1
  rcases tag_ok (F := F) (d := dd) S.2.1 S.2.2.1 S.2.2.2.2.1 l2 with q | q
  · refine ⟨_, q, ?_⟩
    by_cases c : a < e
    · rw [if_pos c]
      have hb := (S.2.2.1.2 a (by omega)).2
      by_cases c1 : zI (tgC (b a)) = -1
      · left
        refine ⟨c1, ?_⟩
        unfold bitA
        rw [if_pos c]
        rcases Nat.decEq (bitO (b a)) 0 with z | z
        · exact absurd c1 (tgC_bit (S := 0) (by decide) hb z).1
        · exact z
      · exact Or.inr ⟨c, hb, rfl, c1⟩
    · rw [if_neg c]
      left
      refine ⟨rfl, ?_⟩
      unfold bitA
      rw [if_neg c]
  · omega
theorem tgH_t {a e S : Nat} {x : Int32} (H : tgH b a e x) (hx : ¬ x = -1) (hS : S < 2 ^ 30) : bitA b a e = 0 ∨ ((((zI S >>> (x &&& 31)) &&& 1) = 1) ↔ S &&& bitA b a e ≠ 0) := by
  rcases H with ⟨q, -⟩ | ⟨q1, q2, q3, -⟩
  · exact absurd q hx
  · unfold bitA
    rw [if_pos q1]
    rcases Nat.decEq (bitO (b a)) 0 with z | z
    · right; rw [q3]; exact (tgC_bit hS q2 z).2
    · exact Or.inl z
theorem tgH_nz {a e : Nat} {x : Int32} (H : tgH b a e x) (hx : ¬ x = -1) : a < e ∧ ¬ b a = 0 := by
  rcases H with ⟨q, -⟩ | ⟨q1, q2, q3, -⟩
  · exact absurd q hx
  · refine ⟨q1, fun w => hx ?_⟩
    rw [q3, w]; decide
/-- an alternative -/
def chX (b : Nat → Nat) (τ : Tb) (d q m a e k : Nat) : Option (Vt (d + 1) × Nat) := if m < 100 then (match rd b τ d (tC τ q k) none a e (m + 1) with
  | none => none
  | some (v, a1) => some (mkV q (Int32.ofNat k) [] [(0, v)], a1)) else none
theorem ch_loop {h : Hp} {m u a nm q : Nat} {x : Int32} {R : Nat → Nat → Int32 → Hp → Option (Option Nat × Hp)} (RO : RdOK F τ b f n R j d) (c : CTy h τ (j + 1) nm q) (w : WFt τ (j + 1) q) (k9 : tK τ q = 9) (hj : j ≤ dd) (hF : 1000 ≤ F)
    (S : RS h sb f n b a e o m u) (ho : o + (j + 1) ≤ 12) (H : tgH b a e x) :
    ∀ (r k nf : Nat), k + r = tN τ q → r < nf → ∃ rr h', fX12_read_8 F dd R nf nm 300 x (zI k) h = some (rr, h') ∧ RP h h' sb f e o m u τ rr (match alt τ q (bitA b a e) r k with | none => none | some k => chX b τ d q m a e k) := by
  have w3 := w.cho k9
  have c0 := c
  obtain ⟨al, c1⟩ := c
  rcases c1 with ⟨k2, -⟩ | ⟨k2, -⟩ | ⟨k2, -⟩ | ⟨k2, -⟩ | ⟨k2, -⟩ | ⟨k2, -⟩ | ⟨k2, c1, ⟨c2, c3⟩, c4, c5⟩ | ⟨k2, -⟩
  all_goals first | (exfalso; omega) | skip
  have S0 := S
  obtain ⟨hx0, p, B, s, A0, h3, h4, l1, l2, l3, l4⟩ := S
  have ln6 : nd_Ln (nm + 1) = 6 := nd_Kd_Ln (by omega)
  intro r
  induction r with
  | zero =>
    intro k nf hk hn
    cases nf with
    | zero => omega
    | succ nf =>
      rw [fX12_read_8, c4, if_pos ((zn_le (by omega) (by omega)).mpr (by omega))]
      exact ⟨_, h, rfl, RPn s rfl⟩
  | succ r ih =>
    intro k nf hk hn
    cases nf with
    | zero => omega
    | succ nf =>
      obtain ⟨cc, c6, c7⟩ := c5 k (by omega)
      have wk := w3.2.2 k (by omega)
      have hS := tS_lt wk
      rw [fX12_read_8, c4, if_neg (show ¬ zI ↑(tN τ q) ≤ zI ↑k from fun z => by rw [zn_le (by omega) (by omega)] at z; omega)]
      by_cases hx : x = -1
      · rw [if_pos hx]
        rcases H with ⟨-, q⟩ | ⟨-, -, -, q⟩
        · rw [q, alt_0]; exact ⟨_, h, rfl, RPn s rfl⟩
        · exact absurd hx q
      rw [if_neg hx, c2, nn_s, ln6, zn_inb (show k < 6 by omega) (by omega), ck_t, bn_d, zn_cl (by omega), c6, nn_s, tags_ok (by omega) c7 wk hj, ca_s]
      by_cases ct : ((zI ↑(tS τ (tC τ q k)) >>> (x &&& 31)) &&& 1) = 1
      · rw [if_pos ct]
        have tgt : ∀ rr h', RP h h' sb f e o m u τ rr (chX b τ d q m a e k) → RP h h' sb f e o m u τ rr (match alt τ q (bitA b a e) (r + 1) k with | none => none | some k => chX b τ d q m a e k) := by
          intro rr h' hh
          rcases tgH_t H hx hS with z | z
          · have : chX b τ d q m a e k = none := by
              unfold chX
              rw [rd_no wk (by omega) (by rw [z, Nat.and_zero])]
              split <;> rfl
            rw [this] at hh
            rw [z, alt_0]
            exact hh
          · rw [alt, if_pos (z.mp ct)]; exact hh
        rw [p.2.2.1, nn_s]
        by_cases hm : m < 100
        · obtain ⟨h1, e1, G, ef1⟩ := GS.mk0 (F := F) (dd := dd) (τ := τ) (kd := 9) (num := zI k) s hx0 h3 h4 hm d
          rw [e1, ca_s]
          have st := ef1.ty (S := S_X3_make) (by decide)
          have p2 := p.fr ef1 (by decide)
          have S1 : RS h1 sb f n b a e o (m + 1) u := ⟨G.1.1, p2, B.fr p.1.2.2.2 ef1 (by decide), G.1.2, A0.fr p.1.1 ef1 (by decide), G.2.1.1, G.2.1.2, l1, l2, l3, by omega⟩
          rw [ef1.p 1000 al.1 (by decide), c2, nn_s, ln6, zn_inb (show k < 6 by omega) (by omega), ck_t, bn_d, st.2.2.2.2 _ _ (by omega) c3, c6, nn_s]
          obtain ⟨r1, h2, e2, q2⟩ := RO.2 h1 cc (tC τ q k) none (-1) sb a e o (m + 1) u (c7.fr st) wk S1 (by omega) rfl
          obtain ⟨x2, ef2⟩ := RO.1 _ _ _ _ _ G.1.1 e2
          rw [e2, ca_s]
          unfold fX12_with
          rw [oc_s]
          cases hr1 : rd b τ d (tC τ q k) none a e (m + 1) with
          | none =>
            rw [hr1] at q2
            rw [q2.2, oc_n, ca_s]
            exact ⟨_, h2, rfl, tgt _ _ (RPn q2.1 (by unfold chX; rw [hr1]; split <;> rfl))⟩
          | some z =>
            obtain ⟨v, a1⟩ := z
            rw [hr1] at q2
            obtain ⟨h4', e4, G4, ef4⟩ := G.kid (F := F) (dd := dd) x2 ef2.1 (v := v) q2.kp 0
            rw [q2.2.1, oc_s]
            rw [szs_nil, Nat.add_zero] at e4
            rw [show (0 : Int32) = zI ↑(0 : Nat) from rfl, e4, cv_s, ca_s]
            refine ⟨_, h4', rfl, tgt _ _ ?_⟩
            unfold chX
            rw [if_pos hm, hr1]
            have p4 := (p2.fr ef2 (by decide)).fr ef4 (by decide)
            refine RP.of rfl ((q2.2.2.1).fr (p2.fr ef2 (by decide)).1.1 ef4 (by decide)) ?_ ?_
            · rw [zI_nat]
              exact G4.fin (by rw [k9]; rfl)
            · intro i hi
              have z1 := q2.2.2.2.2.2.2.2.2 i hi
              have a1 : ∀ y, (y = 301 ∨ y = 302) → gA h1 y i = gA h y i ∧ gA h4' y i = gA h2 y i := by
                intro y hy
                rcases hy with hy | hy
                · rw [hy]; exact ⟨ef1.a i p.1.2.1 (by decide), ef4.a i (p2.fr ef2 (by decide)).1.2.1 (by decide)⟩
                · rw [hy]; exact ⟨ef1.a i p.1.2.2.1 (by decide), ef4.a i (p2.fr ef2 (by decide)).1.2.2.1 (by decide)⟩
              rw [(a1 _ (Or.inl rfl)).2, z1.1, (a1 _ (Or.inl rfl)).1, (a1 _ (Or.inr rfl)).2, z1.2, (a1 _ (Or.inr rfl)).1]
              exact ⟨rfl, rfl⟩
        · rw [make_no h3 (by omega) (by omega), ca_s, c2, nn_s, ln6, zn_inb (show k < 6 by omega) (by omega), ck_t, bn_d, c6, nn_s]
          obtain ⟨r1, h2, e2, q2⟩ := RO.2 h cc (tC τ q k) none (-1) sb a e o m u c7 wk S0 (by omega) rfl
          rw [e2, ca_s]
          unfold fX12_with
          rw [oc_n, ca_s]
          exact ⟨_, h2, rfl, tgt _ _ (RPn q2.1 (by unfold chX; rw [if_neg hm]))⟩
      · rw [if_neg ct, bn_d, zn_succ]
        obtain ⟨rr, h', e1, p1⟩ := ih (k + 1) nf (by omega) (by omega)
        refine ⟨rr, h', e1, ?_⟩
        rcases tgH_t H hx hS with z | z
        · rw [z, alt_0] at p1 ⊢; exact p1
        · rw [alt, if_neg (fun y => ct (z.mpr y))]; exact p1
theorem cho_rd {h : Hp} {a m u nm q : Nat} {g : Option Nat} {dg : Int32} {R : Nat → Nat → Int32 → Hp → Option (Option Nat × Hp)} (RO : RdOK F τ b f n R j d) (c : CTy h τ (j + 1) nm q) (w : WFt τ (j + 1) q) (k : tK τ q = 9) (hj : j ≤ dd)
    (S : RS h sb f n b a e o m u) (ho : o + (j + 1) ≤ 12) (hF : 1000 ≤ F) : ∃ r h', fX12_read F dd R nm 300 dg h = some (r, h') ∧ RP h h' sb f e o m u τ r (rd b τ (d + 1) q g a e m) := by
  obtain ⟨x, e1, H⟩ := tgH_of (F := F) (dd := dd) S
  have w3 := w.cho k
  unfold fX12_read
  rw [e1, ca_s, rd_cho k]
  unfold rdCh
  obtain ⟨rr, h', e2, p2⟩ := ch_loop (F := F) (dd := dd) RO c w k hj hF S ho H (tN τ q) 0 F (by omega) (by omega)
  refine ⟨rr, h', e2, ?_⟩
  cases hz : alt τ q (bitA b a e) (tN τ q) 0 with
  | none => rw [hz] at p2; exact p2
  | some k => rw [hz] at p2; exact p2
/-- where no tag is, all components are missing -/
theorem rdS_0 {q : Nat} {Rs : Nat → Nat → Nat → Nat → Option (Vt d × Nat)} {a : Nat} (h : bitA b a e = 0) : ∀ (r k m : Nat) (ks : List (Nat × Vt d)) (a2 : Nat), rdS b τ Rs (dfl τ d) q e r k a m = some (ks, a2) → a2 = a := by
  intro r
  induction r with
  | zero => intro k m ks a2 hh; cases hh; rfl
  | succ r ih =>
    intro k m ks a2 hh
    rw [rdS, h, Nat.and_zero, if_neg (fun w => w rfl)] at hh
    split at hh
    · cases hh
    · split at hh
      · split at hh
        · split at hh
          · cases hh
          · next hz => cases hh; exact ih _ _ _ _ hz
        · cases hh
      · exact ih _ _ _ _ hh
theorem fnG_0 {q r k m a : Nat} {P : Nat → Bool} {lo : Bool} {l : List (Nat × Vt d)} {Rs : Nat → Nat → Nat → Nat → Option (Vt d × Nat)} (h : bitA b a e = 0) (h1 : a < e) (h2 : ¬ b a = 0) : fnG b P q e lo l (rdS b τ Rs (dfl τ d) q e r k a m) = none := by
  cases hz : rdS b τ Rs (dfl τ d) q e r k a m with
  | none => rfl
  | some z =>
    obtain ⟨ks, a2⟩ := z
    have := rdS_0 h r k m ks a2 hz
    subst this
    have : lea b a2 e lo = none := by
      unfold lea isE
      cases lo with
      | true => rw [if_pos rfl, if_neg (fun z => h2 (of_decide_eq_true z).2.1)]
      | false => rw [if_neg (show ¬ (false = true) by decide), if_neg (fun z => by have := of_decide_eq_true z; omega)]
    unfold fnG
    simp only [this]
    split <;> rfl
end Rg4
