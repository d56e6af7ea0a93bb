/-! THE MODEL: is it a value (BER, DER), whole -/
set_option maxRecDepth 100000
section Iw
variable {F dd N n : Nat} {τ : Tb} {b : Nat → Nat}
theorem isv_ok {h : Hp} {t j D : Nat} {rl : Int32} {der : Bool} (hrl : rl = if der then 1 else 0) (S : MSrc h b n) (hb : ∀ i, b i < 256) (T : MT h τ N) (ht : t < N) (w : WFt τ j t) (hj : j ≤ 8) (hD : j < D) (hF : 5000 ≤ F) :
    ∃ h', fX6_isValue F dd 3000 (zI ↑t) rl h = some (b2i (isR b n τ t der (rd b τ D t none 0 n 0)), h') ∧
      (isR b n τ t der (rd b τ D t none 0 n 0) = true → ∀ v a, rd b τ D t none 0 n 0 = some (v, a) → PV h' τ D v 0 0 (-1) 0 t ∧ BW h' D v 0 ∧ gI h' 634 3000 = zI ↑(sz D v)) := by
  have hr : ¬ 2 ≤ rl := by rw [hrl]; cases der <;> decide
  have hr2 : ¬ rl = 2 := by rw [hrl]; cases der <;> decide
  generalize hh5 : sI (sI (sI (sI (sI h 634 3000 0) 635 3000 0) 648 3000 0) 647 3000 0) 649 3000 1 = h5
  have I5 : ∀ g, ¬ g = 634 → ¬ g = 635 → ¬ g = 648 → ¬ g = 647 → ¬ g = 649 → gI h5 g 3000 = gI h g 3000 := fun g q1 q2 q3 q4 q5 => by
    rw [← hh5, gI_sI, if_neg (by omega), gI_sI, if_neg (by omega), gI_sI, if_neg (by omega), gI_sI, if_neg (by omega), gI_sI, if_neg (by omega)]
  have A5 : gA h5 = gA h := by rw [← hh5]; rfl
  have S5 : MSrc h5 b n := ⟨by rw [← hh5]; exact S.1, by rw [I5 _ (by omega) (by omega) (by omega) (by omega) (by omega)]; exact S.2.1, S.2.2.1, fun i hi => by rw [A5]; exact S.2.2.2 i hi⟩
  have T5 : MT h5 τ N := T.fr fun y i _ _ => by rw [A5]
  have hn := S.2.2.1
  have R5 : MR h5 0 0 0 0 n := by
    refine ⟨⟨?_, ?_, ?_, ?_, ?_⟩, ?_, by omega, by omega, by omega, by omega⟩
    · rw [← hh5, gI_sI, if_neg (by omega), gI_sI, if_pos ⟨rfl, rfl⟩]; rfl
    · rw [← hh5, gI_sI, if_neg (by omega), gI_sI, if_neg (by omega), gI_sI, if_pos ⟨rfl, rfl⟩]; rfl
    · rw [← hh5, gI_sI, if_pos ⟨rfl, rfl⟩]; rfl
    · rw [← hh5, gI_sI, if_neg (by omega), gI_sI, if_neg (by omega), gI_sI, if_neg (by omega), gI_sI, if_neg (by omega), gI_sI, if_pos ⟨rfl, rfl⟩]; rfl
    · rw [← hh5, gI_sI, if_neg (by omega), gI_sI, if_neg (by omega), gI_sI, if_neg (by omega), gI_sI, if_pos ⟨rfl, rfl⟩]; rfl
    · unfold BE; rw [if_pos rfl]; exact S5.2.1
  obtain ⟨h6, e6, k, h7, r7, p7⟩ := (el_ok (F := F) (dd := dd) (rl := rl) (τ := τ) (b := b) (n := n) (N := N) hr (by omega) D j hD (by omega)).el (by omega) h5 0 0 0 0 n t 0 (-1) S5 R5 T5 ht w (Nat.le_refl _) (by omega)
  have st : fX6_isValue F dd 3000 (zI ↑t) rl h = fX6_isValue_47 F dd F 3000 rl h6 := by
    unfold fX6_isValue
    rw [bn_d, bn_d, bn_d, bn_d, bn_d, if_neg hr, hh5]
    rw [show (0 : Int32) = zI ↑(0 : Nat) from rfl, e6, cv_s]
  rw [st]
  cases hx : rd b τ D t none 0 n 0 with
  | none =>
    rw [hx] at p7
    obtain ⟨p71, p72⟩ := p7
    obtain ⟨f, hf⟩ : ∃ f, F = f + 1 + k := ⟨F - 1 - k, by omega⟩
    have := r7 (f + 1)
    rw [← hf] at this
    have p71 : gI h7 649 3000 = 0 := p71
    refine ⟨sI h7 649 3000 0, ?_, fun q => by cases q⟩
    rw [this, fX6_isValue_47, if_pos p71]
    unfold fX6_isValue_80 fX6_isValue_108 fX6_isValue_109
    rw [if_pos p71, show isB 0 = true from rfl, ck_t, bn_d, if_pos (show gI (sI h7 649 3000 0) 649 3000 = 0 by rw [gI_sI, if_pos ⟨rfl, rfl⟩])]
    rfl
  | some z =>
    obtain ⟨v, a⟩ := z
    rw [hx] at p7
    obtain ⟨⟨⟨⟨m1, m2, m3, m4, m5⟩, mb, m6, m7, m8, m9⟩, pv, km⟩, p72⟩ := p7
    obtain ⟨f, hf⟩ : ∃ f, F = f + 1 + k := ⟨F - 1 - k, by omega⟩
    have rr := r7 (f + 1)
    rw [← hf] at rr
    have vo := rd_vok (τ := τ) hb D j t none 0 n 0 v a w (by omega) (by omega) hx
    have g1 : ¬ gI h7 649 3000 = 0 := by rw [m3]; decide
    have S7 := km.ms S5
    have T7 := km.mt T5
    have c1 : fX6_isValue_47 F dd F 3000 rl h6 = (if gI h7 647 3000 = gI h7 628 3000 then fX6_isValue_104 F dd 3000 rl 3000 h7 else fX6_isValue_108 F dd 3000 rl 3000 h7) := by
      rw [rr, fX6_isValue_47, if_neg g1, if_pos (by rw [m2]; decide)]
      unfold fX6_isValue_80
      rw [if_neg g1, if_neg hr2]
    rw [c1]
    by_cases ca' : a = n
    · have c2 : gI h7 647 3000 = gI h7 628 3000 := by rw [m1, S7.2.1, ca']
      rw [if_pos c2]
      generalize hh8 : sI h7 649 3000 1 = h8
      have G8 : GD h7 h8 := by rw [← hh8]; exact GD.sI _ _
      have M8 : MP h8 := by rw [← hh8]; exact S7.1
      have pv8 : PV h8 τ D v 0 0 (-1) 0 t := PV.fr2 (h := h7) (h' := h8) (lo := 0) (fun y i _ _ _ => by rw [G8.1.2.2.2]) (fun i => by rw [G8.1.2.2.2]) pv (Nat.zero_le _)
      have m48 : gI h8 634 3000 = zI ↑(sz D v) := by rw [G8.2 _ _ (by omega), m4]; congr 2; omega
      obtain ⟨h9, e9, b9, s9⟩ := settle_ok (F := F) (dd := dd) M8 m48 pv8 (by omega) (by omega)
      have c3 : fX6_isValue_104 F dd 3000 rl 3000 h7 = (if rl = 0 then some (1, h9) else cv (fX6_write F dd 3000 rl h9) fun h7 => (if (gI h7 629 3000) = (gI h7 628 3000) then (fX6_isValue_153 F dd 3000 3000 1 h7) else (fX6_isValue_153 F dd 3000 3000 0 h7))) := by
        unfold fX6_isValue_104 fX6_isValue_109
        rw [show isB 1 = true from rfl, ck_t, bn_d, hh8, if_neg (by rw [← hh8, gI_sI, if_pos ⟨rfl, rfl⟩]; decide), e9, cv_s]
      rw [c3]
      cases der with
      | false =>
        rw [if_neg (by decide)] at hrl
        rw [if_pos hrl]
        refine ⟨h9, ?_, fun _ v' a' hv => ?_⟩
        · unfold isR; rw [ca']; simp; rfl
        · cases hv
          exact ⟨s9.pv pv8, b9, by rw [s9.1.2.2.2]; exact m48⟩
      | true =>
        rw [if_pos rfl] at hrl
        rw [if_neg (by rw [hrl]; decide), hrl]
        have T9 : MT h9 τ N := T7.fr fun y i q1 q2 => by rw [s9.2 y i (by omega), G8.1.2.2.2]
        have pv9 := s9.pv pv8
        have m49 : gI h9 634 3000 = zI ↑(sz D v) := by rw [s9.1.2.2.2]; exact m48
        obtain ⟨h10, e10, ⟨B1, B2⟩, w10⟩ := write1_ok (F := F) (dd := dd) (as := 0) (s9.mp M8) T9 m49 pv9 b9 vo ht w hj (by omega) (by omega) (by omega) hF
        have l26 := enc_2600 (g := none) vo w hj (by omega) (by omega)
        have M10 : MP h10 := by
          have := s9.mp M8
          unfold MP at this ⊢
          rw [w10.1.1, w10.1.2.1]; exact this
        have n10 : gI h10 628 3000 = zI ↑n := by rw [w10.2.1 _ _ (by omega), s9.1.2.2.2, G8.2 _ _ (by omega)]; exact S7.2.1
        have pv10 : PV h10 τ D v 0 0 (-1) 0 t := PV.fr2 (h := h9) (h' := h10) (lo := 0) (fun y i _ _ _ => w10.2.2 _ _ (by omega) (by omega) (by omega) (by omega)) (fun i => w10.2.2 _ _ (by omega) (by omega) (by omega) (by omega)) pv9 (Nat.zero_le _)
        have b10 : BW h10 D v 0 := BW.fr (h := h9) (h' := h10) (lo := 0) (hi := 0 + sz D v) (fun i _ _ => w10.2.2 _ _ (by omega) (by omega) (by omega) (by omega)) b9 (Nat.zero_le _) (Nat.le_refl _)
        have m410 : gI h10 634 3000 = zI ↑(sz D v) := by rw [w10.2.1 _ _ (by omega)]; exact m49
        rw [e10, cv_s]
        by_cases cl : (enc τ D v t none).length = n
        · rw [if_pos (by rw [B1, n10, cl])]
          have isr : isR b n τ t true (some (v, a)) = sam b (enc τ D v t none) 0 := by
            show (a == n && (!true || ((enc τ D v t none).length == n && sam b (enc τ D v t none) 0))) = _
            rw [ca', cl, beq_self_eq_true]; rfl
          rw [isr]
          obtain ⟨h12, e12, G12⟩ := cmp_ok (F := F) (dd := dd) (b := b) (n := n) (W := enc τ D v t none) (enc_256 D j t v vo w (by omega) (by omega)) cl hn (enc τ D v t none) 0 F (sI h10 649 3000 1) rfl (Nat.zero_le _) (by omega) M10 (fun i hi => ⟨by
            show gA h10 3019 i = _
            rw [w10.2.2 _ _ (by omega) (by omega) (by omega) (by omega), s9.2 _ _ (by omega), G8.1.2.2.2]; exact (S7.2.2.2 i hi).1, hb i⟩) (by rw [gI_sI, if_neg (by omega), B1, cl]) B2 (by rw [gI_sI, if_pos ⟨rfl, rfl⟩]; rfl)
          refine ⟨h12, ?_, fun _ v' a' hv => ?_⟩
          · unfold fX6_isValue_153
            rw [show isB 1 = true from rfl, ck_t, bn_d]
            exact e12
          · cases hv
            exact ⟨PV.fr2 (h := h10) (h' := h12) (lo := 0) (fun y i _ _ _ => by rw [G12.1.2.2.2]; rfl) (fun i => by rw [G12.1.2.2.2]; rfl) pv10 (Nat.zero_le _), BW.fr (h := h10) (h' := h12) (lo := 0) (hi := 0 + sz D v) (fun i _ _ => by rw [G12.1.2.2.2]; rfl) b10 (Nat.zero_le _) (Nat.le_refl _), by rw [G12.2 _ _ (by omega), gI_sI, if_neg (by omega)]; exact m410⟩
        · rw [if_neg (by rw [B1, n10, zI_eq (by omega) (by omega) (by omega) (by omega)]; omega)]
          have isr : isR b n τ t true (some (v, a)) = false := by
            show (a == n && (!true || ((enc τ D v t none).length == n && sam b (enc τ D v t none) 0))) = _
            rw [beq_false_of_ne cl]; simp
          rw [isr]
          refine ⟨sI h10 649 3000 0, ?_, fun q => by cases q⟩
          have g0 : gI (sI h10 649 3000 0) 649 3000 = 0 := by rw [gI_sI, if_pos ⟨rfl, rfl⟩]
          unfold fX6_isValue_153
          rw [show isB 0 = true from rfl, ck_t, bn_d, hf, Nat.add_right_comm, fX6_isValue_158, if_pos g0, g0, show isB 0 = true from rfl, ck_t, ite_self]
          rfl
    · have c2 : ¬ gI h7 647 3000 = gI h7 628 3000 := by
        rw [m1, S7.2.1, zI_eq (by omega) (by omega) (by omega) (by omega)]; omega
      rw [if_neg c2]
      have is : isR b n τ t der (some (v, a)) = false := by show (a == n && _) = false; rw [beq_false_of_ne ca', Bool.false_and]
      rw [is]
      refine ⟨sI h7 649 3000 0, ?_, fun q => by cases q⟩
      unfold fX6_isValue_108 fX6_isValue_109
      rw [show isB 0 = true from rfl, ck_t, bn_d, if_pos (show gI (sI h7 649 3000 0) 649 3000 = 0 by rw [gI_sI, if_pos ⟨rfl, rfl⟩])]
      rfl
end Iw
