/-! HEAP: getters of setters -/
set_option maxRecDepth 100000
theorem gI_sI (h : Hp) (f a : Nat) (v : Int32) (g b : Nat) : gI (sI h f a v) g b = if g = f ∧ b = a then v else gI h g b := rfl
theorem gI_sP (h : Hp) (f a : Nat) (v : Option Nat) : gI (sP h f a v) = gI h := rfl
theorem gI_sA (h : Hp) (a j : Nat) (v : Int32) : gI (sA h a j v) = gI h := rfl
theorem gI_sR (h : Hp) (a j : Nat) (v : Option Nat) : gI (sR h a j v) = gI h := rfl
theorem gI_sJ (h : Hp) (j : Nat) (v : Int64) : gI (sJ h j v) = gI h := rfl
theorem gI_nw (h : Hp) (n z g b : Nat) : gI (nw h n z) g b = if b = n then 0 else gI h g b := rfl
theorem gI_nx (h : Hp) (z : Nat) : gI (nx h z) = gI h := rfl
theorem gP_sI (h : Hp) (f a : Nat) (v : Int32) : gP (sI h f a v) = gP h := rfl
theorem gP_sP (h : Hp) (f a : Nat) (v : Option Nat) (g b : Nat) : gP (sP h f a v) g b = if g = f ∧ b = a then v else gP h g b := rfl
theorem gP_sA (h : Hp) (a j : Nat) (v : Int32) : gP (sA h a j v) = gP h := rfl
theorem gP_sR (h : Hp) (a j : Nat) (v : Option Nat) : gP (sR h a j v) = gP h := rfl
theorem gP_sJ (h : Hp) (j : Nat) (v : Int64) : gP (sJ h j v) = gP h := rfl
theorem gP_nw (h : Hp) (n z g b : Nat) : gP (nw h n z) g b = if b = n then none else gP h g b := rfl
theorem gP_nx (h : Hp) (z : Nat) : gP (nx h z) = gP h := rfl
theorem gA_sI (h : Hp) (f a : Nat) (v : Int32) : gA (sI h f a v) = gA h := rfl
theorem gA_sP (h : Hp) (f a : Nat) (v : Option Nat) : gA (sP h f a v) = gA h := rfl
theorem gA_sA (h : Hp) (a j : Nat) (v : Int32) (b i : Nat) : gA (sA h a j v) b i = if b = a ∧ i = j then v else gA h b i := rfl
theorem gA_sR (h : Hp) (a j : Nat) (v : Option Nat) : gA (sR h a j v) = gA h := rfl
theorem gA_sJ (h : Hp) (j : Nat) (v : Int64) : gA (sJ h j v) = gA h := rfl
theorem gA_nw (h : Hp) (n z b i : Nat) : gA (nw h n z) b i = if b = n then 0 else gA h b i := rfl
theorem gA_nx (h : Hp) (z : Nat) : gA (nx h z) = gA h := rfl
theorem gR_sI (h : Hp) (f a : Nat) (v : Int32) : gR (sI h f a v) = gR h := rfl
theorem gR_sP (h : Hp) (f a : Nat) (v : Option Nat) : gR (sP h f a v) = gR h := rfl
theorem gR_sA (h : Hp) (a j : Nat) (v : Int32) : gR (sA h a j v) = gR h := rfl
theorem gR_sR (h : Hp) (a j : Nat) (v : Option Nat) (b i : Nat) : gR (sR h a j v) b i = if b = a ∧ i = j then v else gR h b i := rfl
theorem gR_sJ (h : Hp) (j : Nat) (v : Int64) : gR (sJ h j v) = gR h := rfl
theorem gR_nw (h : Hp) (n z b i : Nat) : gR (nw h n z) b i = if b = n then none else gR h b i := rfl
theorem gR_nx (h : Hp) (z : Nat) : gR (nx h z) = gR h := rfl
theorem gL_sI (h : Hp) (f a : Nat) (v : Int32) : gL (sI h f a v) = gL h := rfl
theorem gL_sP (h : Hp) (f a : Nat) (v : Option Nat) : gL (sP h f a v) = gL h := rfl
theorem gL_sA (h : Hp) (a j : Nat) (v : Int32) : gL (sA h a j v) = gL h := rfl
theorem gL_sR (h : Hp) (a j : Nat) (v : Option Nat) : gL (sR h a j v) = gL h := rfl
theorem gL_sJ (h : Hp) (j : Nat) (v : Int64) : gL (sJ h j v) = gL h := rfl
theorem gL_nw (h : Hp) (n z b : Nat) : gL (nw h n z) b = if b = n then true else gL h b := rfl
theorem gL_nx (h : Hp) (z : Nat) : gL (nx h z) = gL h := rfl
theorem gJ_sI (h : Hp) (f a : Nat) (v : Int32) : gJ (sI h f a v) = gJ h := rfl
theorem gJ_sP (h : Hp) (f a : Nat) (v : Option Nat) : gJ (sP h f a v) = gJ h := rfl
theorem gJ_sA (h : Hp) (a j : Nat) (v : Int32) : gJ (sA h a j v) = gJ h := rfl
theorem gJ_sR (h : Hp) (a j : Nat) (v : Option Nat) : gJ (sR h a j v) = gJ h := rfl
theorem gJ_sJ (h : Hp) (j : Nat) (v : Int64) (i : Nat) : gJ (sJ h j v) i = if i = j then v else gJ h i := rfl
theorem gJ_nw (h : Hp) (n z i : Nat) : gJ (nw h n z) i = if n = 320 then 0 else gJ h i := rfl
theorem gJ_nx (h : Hp) (z : Nat) : gJ (nx h z) = gJ h := rfl
theorem gC_sI (h : Hp) (f a : Nat) (v : Int32) : gC (sI h f a v) = gC h := rfl
theorem gC_sP (h : Hp) (f a : Nat) (v : Option Nat) : gC (sP h f a v) = gC h := rfl
theorem gC_sA (h : Hp) (a j : Nat) (v : Int32) : gC (sA h a j v) = gC h := rfl
theorem gC_sR (h : Hp) (a j : Nat) (v : Option Nat) : gC (sR h a j v) = gC h := rfl
theorem gC_sJ (h : Hp) (j : Nat) (v : Int64) : gC (sJ h j v) = gC h := rfl
theorem gC_nw (h : Hp) (n z : Nat) : gC (nw h n z) = gC h + 1 := rfl
theorem gC_nx (h : Hp) (z : Nat) : gC (nx h z) = gC h + 1 := rfl
theorem gZ_sI (h : Hp) (f a : Nat) (v : Int32) : gZ (sI h f a v) = gZ h := rfl
theorem gZ_sP (h : Hp) (f a : Nat) (v : Option Nat) : gZ (sP h f a v) = gZ h := rfl
theorem gZ_sA (h : Hp) (a j : Nat) (v : Int32) : gZ (sA h a j v) = gZ h := rfl
theorem gZ_sR (h : Hp) (a j : Nat) (v : Option Nat) : gZ (sR h a j v) = gZ h := rfl
theorem gZ_sJ (h : Hp) (j : Nat) (v : Int64) : gZ (sJ h j v) = gZ h := rfl
theorem gZ_nw (h : Hp) (n z : Nat) : gZ (nw h n z) = gZ h + z := rfl
theorem gZ_nx (h : Hp) (z : Nat) : gZ (nx h z) = gZ h + z := rfl
theorem ck_t {α : Type} (x : Option α) : ck true x = x := rfl
theorem nn_s {α : Type} (a : Nat) (k : Nat → Option α) : nn (some a) k = k a := rfl
theorem bn_d {α β : Type} (x : β) (k : β → Option α) : bn x k = k x := rfl
theorem ca_s {α β : Type} (a : β) (b : Hp) (k : β → Hp → Option α) : ca (some (a, b)) k = k a b := rfl
theorem cv_s {α : Type} (b : Hp) (k : Hp → Option α) : cv (some b) k = k b := rfl
theorem oc_n {α : Type} (n : Option α) (s : Nat → Option α) : oc none n s = n := rfl
theorem oc_s {α : Type} (a : Nat) (n : Option α) (s : Nat → Option α) : oc (some a) n s = s a := rfl
theorem cx_i {α β : Type} (v : β) (h : Hp) (k : β → Hp → Option ((α ⊕ Nat) × Hp)) : cx (some (.inl v, h)) k = k v h := rfl
theorem cx_r {α β : Type} (e : Nat) (h : Hp) (k : β → Hp → Option ((α ⊕ Nat) × Hp)) : cx (some (.inr e, h)) k = some (.inr e, h) := rfl
theorem cy_i {α β : Type} (v : β) (h : Hp) (c : Nat → Hp → Option α) (k : β → Hp → Option α) : cy (some (.inl v, h)) c k = k v h := rfl
theorem cy_r {α β : Type} (e : Nat) (h : Hp) (c : Nat → Hp → Option α) (k : β → Hp → Option α) : cy (some (.inr e, h)) c k = c e h := rfl
