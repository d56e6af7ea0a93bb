/-! THE MODEL: its cells -/
set_option maxRecDepth 100000
/-- the arrays that the model's fields hold -/
def mpF (f : Nat) : Option Nat := match saL.lookup f with
  | some (a :: _) => if 600 ≤ f ∧ f < 700 then some a else none
  | _ => none
theorem mp607 : mpF 607 = some 3001 := by decide
theorem ln3001 : nd_Ln 3001 = 150 := by decide
theorem mp608 : mpF 608 = some 3002 := by decide
theorem ln3002 : nd_Ln 3002 = 150 := by decide
theorem mp609 : mpF 609 = some 3003 := by decide
theorem ln3003 : nd_Ln 3003 = 26 := by decide
theorem mp611 : mpF 611 = some 3004 := by decide
theorem ln3004 : nd_Ln 3004 = 160 := by decide
theorem mp612 : mpF 612 = some 3005 := by decide
theorem ln3005 : nd_Ln 3005 = 160 := by decide
theorem mp613 : mpF 613 = some 3006 := by decide
theorem ln3006 : nd_Ln 3006 = 160 := by decide
theorem mp614 : mpF 614 = some 3007 := by decide
theorem ln3007 : nd_Ln 3007 = 160 := by decide
theorem mp615 : mpF 615 = some 3008 := by decide
theorem ln3008 : nd_Ln 3008 = 160 := by decide
theorem mp616 : mpF 616 = some 3009 := by decide
theorem ln3009 : nd_Ln 3009 = 160 := by decide
theorem mp617 : mpF 617 = some 3010 := by decide
theorem ln3010 : nd_Ln 3010 = 160 := by decide
theorem mp618 : mpF 618 = some 3011 := by decide
theorem ln3011 : nd_Ln 3011 = 160 := by decide
theorem mp619 : mpF 619 = some 3012 := by decide
theorem ln3012 : nd_Ln 3012 = 160 := by decide
theorem mp620 : mpF 620 = some 3013 := by decide
theorem ln3013 : nd_Ln 3013 = 960 := by decide
theorem mp621 : mpF 621 = some 3014 := by decide
theorem ln3014 : nd_Ln 3014 = 960 := by decide
theorem mp622 : mpF 622 = some 3015 := by decide
theorem ln3015 : nd_Ln 3015 = 960 := by decide
theorem mp625 : mpF 625 = some 3016 := by decide
theorem ln3016 : nd_Ln 3016 = 16 := by decide
theorem mp626 : mpF 626 = some 3017 := by decide
theorem ln3017 : nd_Ln 3017 = 150 := by decide
theorem mp631 : mpF 631 = some 3018 := by decide
theorem ln3018 : nd_Ln 3018 = 120 := by decide
theorem mp632 : mpF 632 = some 3019 := by decide
theorem ln3019 : nd_Ln 3019 = 120 := by decide
theorem mp633 : mpF 633 = some 3020 := by decide
theorem ln3020 : nd_Ln 3020 = 4000 := by decide
theorem mp636 : mpF 636 = some 3021 := by decide
theorem ln3021 : nd_Ln 3021 = 100 := by decide
theorem mp637 : mpF 637 = some 3022 := by decide
theorem ln3022 : nd_Ln 3022 = 100 := by decide
theorem mp638 : mpF 638 = some 3023 := by decide
theorem ln3023 : nd_Ln 3023 = 100 := by decide
theorem mp639 : mpF 639 = some 3024 := by decide
theorem ln3024 : nd_Ln 3024 = 100 := by decide
theorem mp640 : mpF 640 = some 3025 := by decide
theorem ln3025 : nd_Ln 3025 = 100 := by decide
theorem mp641 : mpF 641 = some 3026 := by decide
theorem ln3026 : nd_Ln 3026 = 100 := by decide
theorem mp642 : mpF 642 = some 3027 := by decide
theorem ln3027 : nd_Ln 3027 = 101 := by decide
theorem mp643 : mpF 643 = some 3028 := by decide
theorem ln3028 : nd_Ln 3028 = 240 := by decide
theorem mp645 : mpF 645 = some 3029 := by decide
theorem ln3029 : nd_Ln 3029 = 500 := by decide
theorem mp646 : mpF 646 = some 3030 := by decide
theorem ln3030 : nd_Ln 3030 = 240 := by decide
theorem mp650 : mpF 650 = some 3031 := by decide
theorem ln3031 : nd_Ln 3031 = 160 := by decide
theorem mp651 : mpF 651 = some 3032 := by decide
theorem ln3032 : nd_Ln 3032 = 160 := by decide
theorem mp652 : mpF 652 = some 3033 := by decide
theorem ln3033 : nd_Ln 3033 = 160 := by decide
theorem mp653 : mpF 653 = some 3034 := by decide
theorem ln3034 : nd_Ln 3034 = 160 := by decide
theorem mp654 : mpF 654 = some 3035 := by decide
theorem ln3035 : nd_Ln 3035 = 160 := by decide
theorem mp655 : mpF 655 = some 3036 := by decide
theorem ln3036 : nd_Ln 3036 = 8 := by decide
theorem mp656 : mpF 656 = some 3037 := by decide
theorem ln3037 : nd_Ln 3037 = 8 := by decide
theorem mp657 : mpF 657 = some 3038 := by decide
theorem ln3038 : nd_Ln 3038 = 8 := by decide
theorem mp658 : mpF 658 = some 3039 := by decide
theorem ln3039 : nd_Ln 3039 = 256 := by decide
def MP (h : Hp) : Prop := (∀ a, 3000 ≤ a → a < 3040 → gL h a = true) ∧ ∀ f, gP h f 3000 = mpF f
section Lit
variable {a b : Nat}
theorem zl0 : (0 : Int32) = zI ↑(0 : Nat) := rfl
theorem zl1 : (1 : Int32) = zI ↑(1 : Nat) := rfl
theorem zl2 : (2 : Int32) = zI ↑(2 : Nat) := rfl
theorem zl3 : (3 : Int32) = zI ↑(3 : Nat) := rfl
theorem zl4 : (4 : Int32) = zI ↑(4 : Nat) := rfl
theorem zl5 : (5 : Int32) = zI ↑(5 : Nat) := rfl
theorem zl6 : (6 : Int32) = zI ↑(6 : Nat) := rfl
theorem zl7 : (7 : Int32) = zI ↑(7 : Nat) := rfl
theorem zl8 : (8 : Int32) = zI ↑(8 : Nat) := rfl
theorem zl9 : (9 : Int32) = zI ↑(9 : Nat) := rfl
theorem zl10 : (10 : Int32) = zI ↑(10 : Nat) := rfl
theorem zl12 : (12 : Int32) = zI ↑(12 : Nat) := rfl
theorem zl15 : (15 : Int32) = zI ↑(15 : Nat) := rfl
theorem zl16 : (16 : Int32) = zI ↑(16 : Nat) := rfl
theorem zl20 : (20 : Int32) = zI ↑(20 : Nat) := rfl
theorem zl31 : (31 : Int32) = zI ↑(31 : Nat) := rfl
theorem zl32 : (32 : Int32) = zI ↑(32 : Nat) := rfl
theorem zl48 : (48 : Int32) = zI ↑(48 : Nat) := rfl
theorem zl97 : (97 : Int32) = zI ↑(97 : Nat) := rfl
theorem zl99 : (99 : Int32) = zI ↑(99 : Nat) := rfl
theorem zl100 : (100 : Int32) = zI ↑(100 : Nat) := rfl
theorem zl120 : (120 : Int32) = zI ↑(120 : Nat) := rfl
theorem zl127 : (127 : Int32) = zI ↑(127 : Nat) := rfl
theorem zl128 : (128 : Int32) = zI ↑(128 : Nat) := rfl
theorem zl129 : (129 : Int32) = zI ↑(129 : Nat) := rfl
theorem zl130 : (130 : Int32) = zI ↑(130 : Nat) := rfl
theorem zl137 : (137 : Int32) = zI ↑(137 : Nat) := rfl
theorem zl150 : (150 : Int32) = zI ↑(150 : Nat) := rfl
theorem zl160 : (160 : Int32) = zI ↑(160 : Nat) := rfl
theorem zl169 : (169 : Int32) = zI ↑(169 : Nat) := rfl
theorem zl254 : (254 : Int32) = zI ↑(254 : Nat) := rfl
theorem zl255 : (255 : Int32) = zI ↑(255 : Nat) := rfl
theorem zl256 : (256 : Int32) = zI ↑(256 : Nat) := rfl
theorem zl4000 : (4000 : Int32) = zI ↑(4000 : Nat) := rfl
theorem zl65535 : (65535 : Int32) = zI ↑(65535 : Nat) := rfl
theorem zl65536 : (65536 : Int32) = zI ↑(65536 : Nat) := rfl
theorem zn_mul (a b : Nat) : zI ↑a * zI ↑b = zI ↑(a * b) := by rw [zI_mul]; congr 1
theorem zn_addn (h : b ≤ a) : zI ↑a + -zI ↑b = zI ↑(a - b) := by rw [zI_neg, zI_add]; congr 1; omega
theorem zn_eqn (ha : a < 2147483648) (h : 0 < b) (hb : b < 2147483648) : (zI ↑a = -zI ↑b) = False := by rw [zI_neg, zI_eq (by omega) (by omega) (by omega) (by omega)]; simp; omega
theorem zn_neq (ha : a < 2147483648) (h : 0 < b) (hb : b < 2147483648) : (-zI ↑b = zI ↑a) = False := by rw [show (-zI ↑b = zI ↑a) = (zI ↑a = -zI ↑b) from propext eq_comm, zn_eqn ha h hb]
theorem zn_nlt (h : 0 < b) (hb : b < 2147483648) (ha : a < 2147483648) : (-zI ↑b < zI ↑a) = True := by rw [zI_neg, zI_lt (by omega) (by omega) (by omega) (by omega)]; simp; omega
theorem zn_nle (h : 0 < b) (hb : b < 2147483648) (ha : a < 2147483648) : (zI ↑a ≤ -zI ↑b) = False := by rw [zI_neg, zI_le (by omega) (by omega) (by omega) (by omega)]; simp; omega
theorem isB_b2i (x : Bool) : isB (b2i x) = true := by cases x <;> decide
theorem zn_ckb (h : a ≤ 1) : isB (zI ↑a) = true := by
  have : a = 0 ∨ a = 1 := by omega
  rcases this with h | h <;> subst h <;> decide
theorem b2z0 (x : Bool) : (b2i x = zI ↑(0 : Nat)) = (x = false) := by rw [← zl0]; exact propext (b2i_0 x)
theorem b2z1 (x : Bool) : (b2i x = zI ↑(1 : Nat)) = (x = true) := by rw [← zl1]; exact propext (b2i_1 x)
theorem b2it : b2i true = zI ↑(1 : Nat) := rfl
theorem b2if : b2i false = zI ↑(0 : Nat) := rfl
end Lit
section T1
variable {h : Hp} {F d fr : Nat}
theorem frame_ok (M : MP h) (hf : gI h 648 3000 = zI fr) (hl : fr < 160) (x y z : Int32) (hz : isB z = true) :
    fX6_frame F d 3000 x y z h = some (sI (sA (sA (sA (sA (sA h 3031 fr x) 3032 fr y) 3035 fr z) 3033 fr 0) 3034 fr 0) 648 3000 (zI ↑(fr + 1))) := by
  unfold fX6_frame
  simp (disch := omega) only [mp607, mp608, mp609, mp611, mp612, mp613, mp614, mp615, mp616, mp617, mp618, mp619, mp620, mp621, mp622, mp625, mp626, mp631, mp632, mp633, mp636, mp637, mp638, mp639, mp640, mp641, mp642, mp643, mp645, mp646, mp650, mp651, mp652, mp653, mp654, mp655, mp656, mp657, mp658, ln3001, ln3002, ln3003, ln3004, ln3005, ln3006, ln3007, ln3008, ln3009, ln3010, ln3011, ln3012, ln3013, ln3014, ln3015, ln3016, ln3017, ln3018, ln3019, ln3020, ln3021, ln3022, ln3023, ln3024, ln3025, ln3026, ln3027, ln3028, ln3029, ln3030, ln3031, ln3032, ln3033, ln3034, ln3035, ln3036, ln3037, ln3038, ln3039, ck_t, nn_s, bn_d, ca_s, cv_s, oc_n, oc_s, cx_i, cx_r, cy_i, cy_r, gI_sI, gI_sP, gI_sA, gI_sR, gI_sJ, gI_nw, gI_nx, gP_sI, gP_sP, gP_sA, gP_sR, gP_sJ, gP_nw, gP_nx, gA_sI, gA_sP, gA_sA, gA_sR, gA_sJ, gA_nw, gA_nx, gR_sI, gR_sP, gR_sA, gR_sR, gR_sJ, gR_nw, gR_nx, Nat.reduceEqDiff, or_self, or_true, true_or, or_false, false_or, eq_self, and_self, and_true, true_and, and_false, false_and, if_true, if_false, ↓reduceIte, ne_eq, not_true_eq_false, not_false_eq_true, zl0, zl1, zl2, zl3, zl4, zl5, zl6, zl7, zl8, zl9, zl10, zl12, zl15, zl16, zl20, zl31, zl32, zl48, zl97, zl99, zl100, zl120, zl127, zl128, zl129, zl130, zl137, zl150, zl160, zl169, zl254, zl255, zl256, zl4000, zl65535, zl65536, if_pos, if_neg, zn_inb, zn_cl, zn_eq, zn_lt, zn_le, zn_add, zn_sub, zn_mul, zn_addn, zn_eqn, zn_neq, zn_nlt, zn_nle, zn_ckb, isB_b2i, b2z0, b2z1, b2it, b2if, M.2, hf, hz]
end T1
