/-! THE WORLD: class numbers, field ids, static names of cells (printed by tools/world.py) -/
set_option maxRecDepth 100000
abbrev nd_cl : List vw_C := [(RX1, TX1, 12), (RX2, TX2, 15), (RX3, TX3, 6), (RX4, TX4, 8), (RX5, TX5, 3), (RX6, TX6, 59), (RX9, TX9, 5), (RX11, TX11, 4), (RX12, TX12, 2), (RX13, TX13, 2), (RX14, TX14, 3), (RX15, TX15, 2), (RX16, TX16, 3), (RX17, TX17, 9)]
abbrev nd_tys (dA : Nat → ClassId) : List (ClassId × FieldType) := [(dA 0, .int), (dA 1, .char), (dA 2, .boolean), (dA 3, .long), (dA 4, .object "NotationDesk$Type"), (dA 5, .object "NotationDesk$Numeric"), (dA 6, .object "NotationDesk$Octets"), (dA 7, .object "NotationDesk$Sequence"), (dA 8, .object "NotationDesk$Series"), (dA 9, .object "NotationDesk$Choice"), (dA 10, .object "NotationDesk$Tagged"), (dA 11, .object "NotationDesk$Part")]
/-- class number, layout place: field id, whether it is a reference -/
def nd_fl : List (List (Nat × Bool)) := [[(100, true), (101, false), (102, true), (103, false), (104, true), (105, true), (106, true), (107, true), (108, true), (109, true), (110, true), (111, true)], [(200, true), (201, false), (202, false), (203, false), (204, true), (205, true), (206, true), (207, true), (208, true), (209, true), (210, true), (211, true), (212, false), (213, false), (214, false)], [(300, true), (301, true), (302, true), (303, false), (304, false), (305, false)], [(400, true), (401, false), (402, false), (403, false), (404, true), (405, true), (406, true), (407, false)], [(500, true), (501, false), (502, true)], [(600, false), (601, false), (602, false), (603, false), (604, false), (605, false), (606, false), (607, true), (608, true), (609, true), (610, false), (611, true), (612, true), (613, true), (614, true), (615, true), (616, true), (617, true), (618, true), (619, true), (620, true), (621, true), (622, true), (623, false), (624, false), (625, true), (626, true), (627, false), (628, false), (629, false), (630, false), (631, true), (632, true), (633, true), (634, false), (635, false), (636, true), (637, true), (638, true), (639, true), (640, true), (641, true), (642, true), (643, true), (644, false), (645, true), (646, true), (647, false), (648, false), (649, false), (650, true), (651, true), (652, true), (653, true), (654, true), (655, true), (656, true), (657, true), (658, true)], [(800, false), (900, false), (901, false), (902, false), (903, false)], [(1000, true), (1001, false), (1100, true), (1101, true)], [(1000, true), (1001, false)], [(800, false), (1300, true)], [(1400, false), (1401, false), (1402, false)], [(1500, true), (1501, true)], [(1600, false), (1601, false), (1602, true)], [(1700, false), (1701, false), (1702, false), (1703, false), (1704, false), (1705, false), (1706, true), (1707, true), (1708, true)]]
def nd_fd (ci k : Nat) : Nat × Bool := (nd_fl.getD ci []).getD k (0, false)
/-- the kinds that a reference field may hold -/
def nd_okl : List (Nat × List Nat) := [(100, [1]), (102, [20]), (104, [2]), (105, [2]), (106, [3]), (107, [4]), (108, [24]), (109, [20]), (110, [20]), (111, [22]), (200, [21]), (204, [24]), (205, [25]), (206, [26]), (207, [27]), (208, [28]), (209, [29]), (210, [30]), (211, [20]), (300, [31]), (301, [31]), (302, [20]), (400, [20]), (404, [2]), (405, [20]), (406, [20]), (500, [20]), (502, [2]), (607, [21]), (608, [20]), (609, [20]), (611, [20]), (612, [20]), (613, [20]), (614, [20]), (615, [20]), (616, [20]), (617, [20]), (618, [22]), (619, [22]), (620, [20]), (621, [20]), (622, [20]), (625, [20]), (626, [20]), (631, [20]), (632, [20]), (633, [20]), (636, [20]), (637, [20]), (638, [20]), (639, [20]), (640, [20]), (641, [20]), (642, [20]), (643, [20]), (645, [20]), (646, [20]), (650, [20]), (651, [20]), (652, [20]), (653, [20]), (654, [22]), (655, [20]), (656, [20]), (657, [20]), (658, [22]), (1000, [24]), (1100, [20]), (1101, [20]), (1300, [10]), (1500, [10]), (1501, [6, 7, 8, 9, 11, 12]), (1602, [6, 7, 8, 9, 11, 12]), (1706, [13]), (1707, [13]), (1708, [13])]
def nd_okF (f k : Nat) : Bool := match nd_okl.lookup f with | some l => l.contains k | none => false
/-- the kinds that an array of references (its kind) may hold -/
def nd_okRl : List (Nat × List Nat) := [(24, [6, 7, 8, 9, 11, 12]), (25, [6]), (26, [9]), (27, [7]), (28, [11]), (29, [8]), (30, [12]), (31, [13])]
def nd_okR (a k : Nat) : Bool := match nd_okRl.lookup a with | some l => l.contains k | none => false
def nd_Kl : List (Nat × Nat × Nat) := [(5, 16, 0), (100, 0, 0), (101, 20, 120), (102, 24, 8), (103, 20, 8), (104, 20, 8), (105, 22, 256), (200, 1, 0), (201, 21, 150), (202, 24, 26), (203, 25, 150), (204, 26, 150), (205, 27, 150), (206, 28, 150), (207, 29, 150), (208, 30, 150), (209, 20, 50), (300, 3, 0), (301, 20, 12), (302, 20, 12), (310, 4, 0), (311, 20, 2600), (320, 23, 1), (1000, 2, 0), (1001, 31, 100), (1002, 31, 100), (1003, 20, 120), (2000, 2, 0), (2001, 31, 100), (2002, 31, 100), (2003, 20, 120), (3000, 5, 0), (3001, 21, 150), (3002, 20, 150), (3003, 20, 26), (3004, 20, 160), (3005, 20, 160), (3006, 20, 160), (3007, 20, 160), (3008, 20, 160), (3009, 20, 160), (3010, 20, 160), (3011, 22, 160), (3012, 22, 160), (3013, 20, 960), (3014, 20, 960), (3015, 20, 960), (3016, 20, 16), (3017, 20, 150), (3018, 20, 120), (3019, 20, 120), (3020, 20, 4000), (3021, 20, 100), (3022, 20, 100), (3023, 20, 100), (3024, 20, 100), (3025, 20, 100), (3026, 20, 100), (3027, 20, 101), (3028, 20, 240), (3029, 20, 500), (3030, 20, 240), (3031, 20, 160), (3032, 20, 160), (3033, 20, 160), (3034, 20, 160), (3035, 22, 160), (3036, 20, 8), (3037, 20, 8), (3038, 20, 8), (3039, 22, 256)]
def nd_K0 (n : Nat) : Nat := match nd_Kl.lookup n with | some q => q.1 | none => if (1010 ≤ n ∧ n < 1110) ∨ (2010 ≤ n ∧ n < 2110) then 13 else 99
def nd_L0 (n : Nat) : Nat := match nd_Kl.lookup n with | some q => q.2 | none => 0
/-- the kind of a name: 0..13 an object's class number, 20.. an array's -/
def nd_Kd (n : Nat) : Nat := if n < 10000 then nd_K0 n else
  match n / 10000, n % 10 with
  | 1, 0 => 6
  | 2, 0 => 9
  | 2, 1 => 10
  | 3, 0 => 7
  | 3, 1 => 24
  | 3, 2 => 20
  | 3, 3 => 20
  | 4, 0 => 11
  | 4, 1 => 10
  | 5, 0 => 8
  | 5, 1 => 24
  | 6, 0 => 12
  | _, _ => 99
/-- the length of an array by its name -/
def nd_Ln (n : Nat) : Nat := if n < 10000 then nd_L0 n else 6
/-- the name of the type of a kind c (1 Numeric, 2 Octets, 3 Sequence, 4 Series, 5 Choice, 6 Tagged) at a place of the text -/
def nd_tn (c : Nat) (p : Int32) : Nat := 10000 * c + 10 * p.toNatClampNeg
