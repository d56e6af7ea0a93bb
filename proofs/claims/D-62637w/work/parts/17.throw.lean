/-! ROW of nd_V: new X; dup; invokespecial; athrow (printed by tools/throw.py) -/
set_option maxRecDepth 100000
def nd_cd (w : Cond) : Bool := match w with
  | .castable _ _ => true
  | .declares _ => true
  | w => goodWord w
theorem nd_wb {wd : Wd} {s : State} {args : Array Value} (K : nd_KT wd s) (hts : ∀ w ∈ lw_all, w.before args s = true) {w : Cond} (h : w ∈ lw_tbl) (g : nd_cd w = true) : w.before args s = true := by
  unfold nd_cd at g
  split at g
  · exact va_Nw.use rfl (K.2.2.2.1 _ _ h)
  · exact va_Nw.use rfl (K.2.2.2.2.2.1 _ h)
  · exact hts _ (lw_g h g)
abbrev nd_ch : List String := ["java/lang/RuntimeException", "java/lang/Exception"]
theorem nd_tbl (ws : List Cond) (ps : List Nat) (hp : ws = ps.filterMap (fun i => lw_tbl[i]?)) : ∀ w ∈ ws, w ∈ lw_tbl := by
  intro w h
  rw [hp] at h
  obtain ⟨i, -, hi⟩ := List.mem_filterMap.mp h
  exact List.mem_of_getElem? hi
theorem nd_xa0 : ∀ w ∈ vx_at0 "NotationDesk" 68 (nd_xn 0) nd_ch, w ∈ lw_tbl := nd_tbl _ [102, 759, 711, 719, 722, 724, 760, 761, 119, 120, 705, 710, 720, 727, 753, 728, 754, 729, 755, 706, 708, 756, 817, 818, 819, 785, 746, 785, 786, 787, 788, 748, 788, 789, 790, 760, 750, 816, 808, 809, 810, 714, 811, 812, 813, 814, 725, 757, 815] (by decide +kernel)
theorem nd_xg0 : ((Cond.classLink "NotationDesk" 66 (nd_xn 0) :: Cond.initialized (nd_xn 0) :: vx_at0 "NotationDesk" 68 (nd_xn 0) nd_ch).all fun w => nd_cd w && vx_ot w) = true := by decide +kernel
theorem nd_xa1 : ∀ w ∈ vx_at0 "NotationDesk" 156 (nd_xn 1) nd_ch, w ∈ lw_tbl := nd_tbl _ [102, 759, 711, 719, 722, 724, 760, 761, 119, 120, 705, 710, 720, 727, 753, 728, 754, 729, 755, 706, 708, 756, 836, 837, 838, 785, 746, 785, 786, 787, 788, 748, 788, 789, 790, 760, 750, 835, 827, 828, 829, 715, 830, 831, 832, 833, 725, 757, 834] (by decide +kernel)
theorem nd_xg1 : ((Cond.classLink "NotationDesk" 154 (nd_xn 1) :: Cond.initialized (nd_xn 1) :: vx_at0 "NotationDesk" 156 (nd_xn 1) nd_ch).all fun w => nd_cd w && vx_ot w) = true := by decide +kernel
theorem nd_xa2 : ∀ w ∈ vx_at0 "NotationDesk" 162 (nd_xn 2) nd_ch, w ∈ lw_tbl := nd_tbl _ [102, 759, 711, 719, 722, 724, 760, 761, 119, 120, 705, 710, 720, 727, 753, 728, 754, 729, 755, 706, 708, 756, 851, 852, 853, 785, 746, 785, 786, 787, 788, 748, 788, 789, 790, 760, 750, 850, 842, 843, 844, 718, 845, 846, 847, 848, 725, 757, 849] (by decide +kernel)
theorem nd_xg2 : ((Cond.classLink "NotationDesk" 160 (nd_xn 2) :: Cond.initialized (nd_xn 2) :: vx_at0 "NotationDesk" 162 (nd_xn 2) nd_ch).all fun w => nd_cd w && vx_ot w) = true := by decide +kernel
theorem nd_xa3 : ∀ w ∈ vx_at0 "NotationDesk" 176 (nd_xn 3) nd_ch, w ∈ lw_tbl := nd_tbl _ [102, 759, 711, 719, 722, 724, 760, 761, 119, 120, 705, 710, 720, 727, 753, 728, 754, 729, 755, 706, 708, 756, 1281, 1282, 1283, 785, 746, 785, 786, 787, 788, 748, 788, 789, 790, 760, 750, 1280, 1272, 1273, 1274, 717, 1275, 1276, 1277, 1278, 725, 757, 1279] (by decide +kernel)
theorem nd_xg3 : ((Cond.classLink "NotationDesk" 174 (nd_xn 3) :: Cond.initialized (nd_xn 3) :: vx_at0 "NotationDesk" 176 (nd_xn 3) nd_ch).all fun w => nd_cd w && vx_ot w) = true := by decide +kernel
theorem nd_xa4 : ∀ w ∈ vx_at0 "NotationDesk" 101 (nd_xn 4) nd_ch, w ∈ lw_tbl := nd_tbl _ [102, 759, 711, 719, 722, 724, 760, 761, 119, 120, 705, 710, 720, 727, 753, 728, 754, 729, 755, 706, 708, 756, 782, 783, 784, 785, 746, 785, 786, 787, 788, 748, 788, 789, 790, 760, 750, 781, 773, 774, 775, 716, 776, 777, 778, 779, 725, 757, 780] (by decide +kernel)
theorem nd_xg4 : ((Cond.classLink "NotationDesk" 99 (nd_xn 4) :: Cond.initialized (nd_xn 4) :: vx_at0 "NotationDesk" 101 (nd_xn 4) nd_ch).all fun w => nd_cd w && vx_ot w) = true := by decide +kernel
section NdT
variable {l : Launch} {w : Wd} {r : Res} {h : Hp} {pc : Nat} {L L' : LL} {st st' : List AV} {y : MethodName} {cc : ByteArray} {nL fr lo : Nat} {ret : Option FieldType}
theorem nx_mono (h : Hp) (z : Nat) : nd_mono h (nx h z) := ⟨fun _ e => e, Nat.le_succ _, Nat.le_add_right _ _⟩
theorem nd_throw (x : Nat) {ik ic : Nat} (hown0 : y.cls = "NotationDesk") (d0 : decode cc pc = .ok (.new ik, 3)) (d3 : decode cc (pc + 3) = .ok (.dup, 1)) (d4 : decode cc (pc + 4) = .ok (.invokespecial ic, 3)) (d7 : decode cc (pc + 7) = .ok (.athrow, 1))
    (hfit : Bundle.fit (nd_xn x) = true) (hat : ∀ w ∈ vx_at0 "NotationDesk" ic (nd_xn x) nd_ch, w ∈ lw_tbl) (hg : ((Cond.classLink "NotationDesk" ik (nd_xn x) :: Cond.initialized (nd_xn x) :: vx_at0 "NotationDesk" ic (nd_xn x) nd_ch).all fun w => nd_cd w && vx_ot w) = true)
    (hk : Cond.classLink "NotationDesk" ik (nd_xn x) ∈ lw_all) (hini : Cond.initialized (nd_xn x) ∈ lw_all) (hfr0 : 5 < fr) (hlo0 : (st.map ac).sum + 81 ≤ lo) : nd_V l w y cc nL ret fr lo (.inr x, nx h 6) h pc L st := by
  intro wf a1 a2
  refine ⟨nx_mono h 6, ⟨wf, fun b e => by cases e⟩, fun E X ad H locs ls hin => ?_⟩
  obtain ⟨p, l1, e, R, s, m, args, below, meth, c, w1, ad0, h0⟩ := E
  obtain ⟨hx, hb, hml, hown, hts, hr, hlk, hnm, hxt, hKT, hKZ, hfr, hlo, hstt, hl1, hw1, hbase, htab⟩ := X
  obtain ⟨i1, i2, i3, i4, i5, i6, i7, i8⟩ := hin
  have hga := List.all_eq_true.mp hg
  rw [hown0] at hown
  have c1 : gC (nx h 6) = gC h + 1 := rfl
  have c2 : gZ (nx h 6) = gZ h + 6 := rfl
  refine vx_throw0 (names := nd_ch) (A := fun q => w1.2.2.2.1 ≤ q) hx hb hstt hown hfit (by decide +kernel) (hts _ hk) (hts _ hini) (fun w hw => nd_wb hKT hts (hat w hw) (by have := hga w (List.mem_cons_of_mem _ (List.mem_cons_of_mem _ hw)); simp only [Bool.and_eq_true] at this; exact this.1))
    (fun w hw => by have := hga w hw; simp only [Bool.and_eq_true] at this; exact this.2) hKZ.1 hKZ.2.1 i2 i3.1 d0 d3 d4 d7 (fun z hz => (hxt (by rw [hown0]; decide) z hz).elim) (Nat.lt_of_lt_of_le hfr0 hfr) ?_ (by rw [c1] at i5; omega) (by rw [c2] at i6; omega) hlk ?_ i2.2.2 (by rw [c1]; omega) (by rw [c2]; omega)
  · refine Nat.le_trans ?_ hlo
    have := nd_cat (ad := ad) (Nat.le_refl (st.map ac).sum)
    show _ + (13 * (2 + 1) + 42) ≤ lo
    omega
  · intro t hal hz hk
    refine ⟨ad, x, rfl, rfl, ⟨fun n hn => ?_, i1.2.1, i1.2.2⟩, fun n hn => (i4 n hn).2, ⟨Nat.le_trans i2.1 hz, fun q h1 h2 => ?_⟩⟩
    · obtain ⟨p1, p2, p3⟩ := i1.1 n hn
      exact ⟨p1, Nat.lt_of_lt_of_le p2 hz, p3.kept ⟨fun _ => rfl, fun _ => rfl, fun _ => rfl, fun _ => rfl, fun _ _ => rfl⟩ (hk _ p2)⟩
    · rw [hk q (Nat.lt_of_lt_of_le h1 i2.1)]
      exact i2.2.1 q h1 h2
end NdT
