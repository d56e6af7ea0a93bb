/-! DER's bytes are bytes -/
set_option maxRecDepth 100000
section E6
variable {τ : Tb}
theorem wrp_256 : ∀ (xs c : List Nat), (∀ x ∈ xs, x < 256) → (∀ x ∈ c, x < 256) → (wrp xs c).length < 65536 → ∀ x ∈ wrp xs c, x < 256 := by
  intro xs
  induction xs with
  | nil => intro c _ hc _ x hx; exact hc x hx
  | cons y xs ih =>
    intro c hy hc hl x hx
    rw [wrp_c] at hl hx
    rw [List.length_append] at hl
    rcases List.mem_append.mp hx with q | q
    · have hn : (wrp xs c).length < 65536 := by omega
      generalize (wrp xs c).length = n at q hn
      unfold hdr at q
      rcases List.mem_cons.mp q with q | q
      · rw [q]; exact hy y (List.mem_cons_self)
      · rcases List.mem_append.mp q with q | q
        · split at q
          · rcases List.mem_cons.mp q with q | q
            · omega
            · have := List.mem_singleton.mp q; omega
          · split at q
            · have := List.mem_singleton.mp q; omega
            · cases q
        · have := List.mem_singleton.mp q; omega
    · exact ih c (fun x hx => hy x (List.mem_cons_of_mem _ hx)) hc (by omega) x q
theorem ibs_256 (v : Int32) : ∀ k, ∀ x ∈ ibs v k, x < 256 := by
  intro k
  induction k with
  | zero => intro x hx; cases hx
  | succ k ih =>
    intro x hx
    rcases List.mem_cons.mp hx with q | q
    · obtain ⟨n, h1, h2⟩ := and_255 (v >>> Int32.ofNat (8 * k))
      rw [q, h2, zn_cl (by omega)]; exact h1
    · exact ih x q
theorem fl_len {α : Type} {L : List (List α)} {l : List α} (h : l ∈ L) : l.length ≤ L.flatten.length := by
  induction L with
  | nil => cases h
  | cons y L ih =>
    rw [List.flatten_cons, List.length_append]
    rcases List.mem_cons.mp h with q | q
    · rw [q]; omega
    · have := ih q; omega
theorem enc_256 : ∀ (d j t : Nat) (v : Vt d), VOk τ d v t → WFt τ j t → j ≤ 200 → (enc τ d v t none).length < 65536 → ∀ x ∈ enc τ d v t none, x < 256 := by
  intro d
  induction d with
  | zero => intro j t v vo; exact vo.elim
  | succ d ih =>
    intro j t v vo w hj hl
    obtain ⟨jb, j1, wb, kb⟩ := w.base hj
    rw [← vo.1] at wb kb
    rw [enc_s] at hl ⊢
    have hc := Nat.lt_of_le_of_lt (wrp_ge _ _) hl
    apply wrp_256 _ _ _ _ hl
    · rw [tgs_fuel w hj]
      exact tgs_lt w fun y z => by cases z
    · rw [← vo.1] at hc ⊢
      intro x hx
      have kid : ∀ (T : Nat × Vt d → Nat), (∀ p ∈ vK v, VOk τ d p.2 (T p) ∧ WFt τ jb (T p)) → ((vK v).map fun p => if lft τ (vT v) p then [] else enc τ d p.2 (T p) none).flatten.length < 65536 → x ∈ ((vK v).map fun p => if lft τ (vT v) p then [] else enc τ d p.2 (T p) none).flatten → x < 256 := by
        intro T hT hl hx
        obtain ⟨l, h1, h2⟩ := List.mem_flatten.mp hx
        have h3 := fl_len h1
        obtain ⟨p, h4, h5⟩ := List.mem_map.mp h1
        rw [← h5] at h2 h3
        split at h2
        · cases h2
        · next c =>
          rw [if_neg c] at h3
          exact ih jb _ _ (hT p h4).1 (hT p h4).2 (by omega) (by omega) x h2
      unfold cnE at hx hc
      rcases vo.2 with ⟨k, q, -⟩ | ⟨k, -⟩ | ⟨k, -, -, q, -⟩ | ⟨k, -⟩ | ⟨k, -, -, c, q⟩ | ⟨k, -, -, -, c, q⟩ | ⟨k, -, kk, w', c1, c2, c3, q⟩
      · rw [if_pos k] at hx
        have hx := List.mem_singleton.mp hx
        rcases q with q | q <;> rw [hx, q] <;> decide
      · rw [if_neg (by omega), if_pos k] at hx
        exact ibs_256 _ _ _ hx
      · rw [if_neg (by omega), if_neg (by omega), if_pos k] at hx
        exact q x hx
      · rw [if_neg (by omega), if_neg (by omega), if_neg (by omega), if_pos k] at hx
        cases hx
      · rw [if_neg (by omega), if_neg (by omega), if_neg (by omega), if_neg (by omega)] at hx hc
        simp only [if_pos k] at hx hc
        exact kid (fun p => tC τ (vT v) p.1) (fun p hp => ⟨q p hp, ((wb.seq k).2 _ (c.mem p hp).2).2.2⟩) hc hx
      · rw [if_neg (by omega), if_neg (by omega), if_neg (by omega), if_neg (by omega)] at hx hc
        simp only [if_neg (show ¬ tK τ (vT v) = 6 by omega), if_pos k] at hx hc
        exact kid (fun p => tC τ (vT v) 0) (fun p hp => ⟨q p hp, (wb.lst k).2⟩) hc hx
      · rw [if_neg (by omega), if_neg (by omega), if_neg (by omega), if_neg (by omega)] at hx hc
        simp only [if_neg (show ¬ tK τ (vT v) = 6 by omega), if_neg (show ¬ tK τ (vT v) = 7 by omega)] at hx hc
        have hk := (wb.cho k).1.2
        have ek : (vN v).toNatClampNeg = kk := by rw [c2, zn_cl (by omega)]
        rw [ek] at hx hc
        refine kid (fun p => tC τ (vT v) kk) (fun p hp => ?_) hc hx
        rw [c3] at hp
        have e := List.mem_singleton.mp hp
        rw [e]
        exact ⟨q, (wb.cho k).2.2 kk c1⟩
end E6
