set_option maxRecDepth 100000
abbrev CM : Type := (Nat → Nat → Int32) × (Nat → Nat → Nat) × (Nat → Nat → Int32) × (Nat → Nat → Int64) × (Nat → Nat → Nat) × (Nat → Nat) × (Nat → Nat) × Nat × Nat
def mI (M : CM) (g o : Nat) : Int32 := M.1 g o
def mR (M : CM) (g o : Nat) : Nat := M.2.1 g o
def mA (M : CM) (a i : Nat) : Int32 := M.2.2.1 a i
def mL (M : CM) (a i : Nat) : Int64 := M.2.2.2.1 a i
def mX (M : CM) (a i : Nat) : Nat := M.2.2.2.2.1 a i
def mk (M : CM) (o : Nat) : Nat := M.2.2.2.2.2.1 o
def ml (M : CM) (a : Nat) : Nat := M.2.2.2.2.2.2.1 a
def mn (M : CM) : Nat := M.2.2.2.2.2.2.2.1
def ms (M : CM) : Nat := M.2.2.2.2.2.2.2.2
def msI (M : CM) (g o : Nat) (v : Int32) : CM := (fun h x => if h = g ∧ x = o then v else M.1 h x, M.2)
def msR (M : CM) (g o : Nat) (v : Nat) : CM := (M.1, fun h x => if h = g ∧ x = o then v else M.2.1 h x, M.2.2)
def mwA (M : CM) (a i : Nat) (v : Int32) : CM := (M.1, M.2.1, fun b j => if b = a ∧ j = i then v else M.2.2.1 b j, M.2.2.2)
def mwL (M : CM) (a i : Nat) (v : Int64) : CM := (M.1, M.2.1, M.2.2.1, fun b j => if b = a ∧ j = i then v else M.2.2.2.1 b j, M.2.2.2.2)
def mwX (M : CM) (a i : Nat) (v : Nat) : CM := (M.1, M.2.1, M.2.2.1, M.2.2.2.1, fun b j => if b = a ∧ j = i then v else M.2.2.2.2.1 b j, M.2.2.2.2.2)
def mcA (M : CM) (src sp dst dp n : Nat) : CM := (M.1, M.2.1, fun b j => if b = dst ∧ dp ≤ j ∧ j < dp + n then M.2.2.1 src (sp + (j - dp)) else M.2.2.1 b j, M.2.2.2)
def mcL (M : CM) (src sp dst dp n : Nat) : CM := (M.1, M.2.1, M.2.2.1, fun b j => if b = dst ∧ dp ≤ j ∧ j < dp + n then M.2.2.2.1 src (sp + (j - dp)) else M.2.2.2.1 b j, M.2.2.2.2)
def mcX (M : CM) (src sp dst dp n : Nat) : CM := (M.1, M.2.1, M.2.2.1, M.2.2.2.1, fun b j => if b = dst ∧ dp ≤ j ∧ j < dp + n then M.2.2.2.2.1 src (sp + (j - dp)) else M.2.2.2.2.1 b j, M.2.2.2.2.2)
def mnew (M : CM) (c len N : Nat) : CM := (fun g o => if o = mn M then 0 else M.1 g o, fun g o => if o = mn M then 0 else M.2.1 g o, fun b j => if b = mn M then 0 else M.2.2.1 b j, fun b j => if b = mn M then 0 else M.2.2.2.1 b j, fun b j => if b = mn M then 0 else M.2.2.2.2.1 b j, fun o => if o = mn M then c else mk M o, fun o => if o = mn M then len else ml M o, mn M + 1, ms M + N)
abbrev capN : Nat := 601024
abbrev capS : Nat := 7293034
abbrev oldB : Nat := 1099511627776
abbrev othB : Nat := 4398046511104
abbrev CE : Type := Nat × (Nat → Nat) × (Nat → ClassId) × (Nat → Nat → Nat) × (Nat → ClassId) × Bool
abbrev CE.zb (E : CE) : Nat := E.1
abbrev CE.old (E : CE) : Nat → Nat := E.2.1
abbrev CE.dC (E : CE) : Nat → ClassId := E.2.2.1
abbrev CE.dI (E : CE) : Nat → Nat → Nat := E.2.2.2.1
abbrev CE.ca (E : CE) : Nat → ClassId := E.2.2.2.2.1
abbrev CE.fx (E : CE) : Bool := E.2.2.2.2.2
def rvC (E : CE) (o : Nat) : Value := if o = 0 then .null else if o < oldB then .ref (E.zb + o) else .ref (E.old o)
def TW7 : u_T := fun k => match k with
  | 0 => ("EquationHouse$Wrong", "rule", "I", true)
  | 1 => ("EquationHouse$Wrong", "place", "I", true)
  | _ => ("java/lang/Throwable", "backtrace", "Ljava/lang/Object;", false)
def cclL : List vw_C := [(RX0, TX0, 108), (RX1, TX1, 3), (RX2, TX2, 13), (RX3, TX3, 6), (RX4, TX4, 7), (RX6, TX6, 3), (RX7, TW7, 3), (RX8, TX8, 8), (RX9, TX9, 4), (RX10, TX10, 5), (RX11, TX11, 8), (RX12, TX12, 4), (RX13, TX13, 8), (RX14, TX14, 6), (RX15, TX15, 4), (RX16, TX16, 8), (RX17, TX17, 20), (RX18, TX18, 8), (RX20, TX20, 2), (RX21, TX21, 6), (RX22, TX22, 5), (RJ2, TJ2, 3), (RJ16, TJ16, 1), (RJ3, TJ3, 4)]
def cfkL : List (List Nat) := [[2, 0, 2, 0, 0, 0, 2, 2, 2, 0, 2, 2, 2, 2, 2, 0, 0, 0, 0, 2, 2, 2, 2, 2, 0, 2, 2, 2, 2, 2, 1, 0, 0, 0, 2, 0, 2, 0, 2, 0, 2, 0, 2, 0, 2, 1, 1, 2, 2, 0, 2, 2, 2, 2, 2, 2, 2, 0, 2, 2, 2, 2, 2, 2, 2, 0, 0, 2, 2, 2, 2, 2, 2, 2, 0, 0, 2, 2, 2, 2, 2, 2, 2, 0, 0, 0, 1, 2, 2, 2, 0, 1, 1, 0, 0, 0, 0, 0, 2, 2, 2, 2, 2, 2, 2, 2, 2, 2], [2, 2, 0], [2, 2, 2, 2, 0, 0, 0, 2, 2, 2, 2, 2, 2], [2, 0, 0, 0, 0, 0], [0, 2, 2, 2, 2, 2, 2], [0, 2, 2], [0, 0, 2], [0, 0, 2, 2, 2, 2, 2, 2], [0, 1, 0, 0], [0, 1, 2, 2, 0], [1, 0, 0, 0, 0, 2, 2, 2], [2, 1, 2, 0], [0, 2, 2, 0, 0, 0, 2, 2], [0, 2, 2, 0, 0, 2], [2, 0, 2, 1], [0, 0, 0, 2, 1, 0, 2, 2], [2, 0, 0, 0, 2, 1, 2, 2, 2, 2, 2, 2, 0, 0, 0, 1, 1, 0, 0, 0], [0, 0, 0, 0, 0, 2, 2, 2], [2, 2], [2, 2, 0, 0, 1, 1], [1, 0, 2, 2, 0], [0, 2, 0], [0], [2, 0, 0, 1]]
def cfkd (c k : Nat) : Nat := (cfkL.getD c []).getD k 0
def nfl (c : Nat) : Nat := (cfkL.getD c []).length
abbrev gf (c k : Nat) : Nat := 200 * c + k
def cbool (g : Nat) : Bool := cfkd (g / 200) (g % 200) == 1
def VC (E : CE) (M : CM) (c o k : Nat) : Value := match cfkd c k with
  | 2 => rvC E (mR M (gf c k) o)
  | _ => .int (mI M (gf c k) o)
def cvC (E : CE) (M : CM) (a k i : Nat) : Value := match k with
  | 53 => .long (mL M a i)
  | 54 => rvC E (mX M a i)
  | 55 => rvC E (mX M a i)
  | _ => .int (mA M a i)
def monOK (E : CE) (o : Nat) (H : Heap) : Prop := ∃ cell : Cell, H[E.zb + o]? = some cell ∧ cell.monitor.owner = none ∧ cell.monitor.count = 0 ∧ cell.slots.size = 8
def cellOK (E : CE) (M : CM) (o : Nat) (H : Heap) : Prop := (mk M o ≠ 0 → mk M o ≤ 24 → t_OB (E.zb + o) (E.dC (mk M o - 1)) (nfl (mk M o - 1)) (E.dI (mk M o - 1)) H (VC E M (mk M o - 1) o)) ∧ (50 ≤ mk M o → H[E.zb + o]? = some (arrV (E.ca (mk M o)) (ml M o) (cvC E M o (mk M o)))) ∧ (mk M o = 7 → monOK E o H)
def fixK : List (Nat × Nat × Nat) := [(1, 1, 0), (2, 51, 2000), (3, 51, 500), (4, 2, 0), (5, 22, 0), (6, 53, 256), (7, 24, 0), (8, 51, 5), (9, 55, 10), (10, 24, 0), (11, 51, 9), (12, 24, 0), (13, 51, 8), (14, 24, 0), (15, 51, 3), (16, 24, 0), (17, 51, 7), (18, 24, 0), (19, 51, 9), (20, 24, 0), (21, 51, 4), (22, 24, 0), (23, 51, 8), (24, 24, 0), (25, 51, 5), (26, 24, 0), (27, 51, 5), (28, 24, 0), (29, 51, 11), (30, 55, 15), (31, 24, 0), (32, 51, 9), (33, 24, 0), (34, 51, 4), (35, 24, 0), (36, 51, 7), (37, 24, 0), (38, 51, 8), (39, 24, 0), (40, 51, 7), (41, 55, 22), (42, 24, 0), (43, 51, 4), (44, 24, 0), (45, 51, 4), (46, 24, 0), (47, 51, 3), (48, 24, 0), (49, 51, 2), (50, 24, 0), (51, 51, 4), (52, 24, 0), (53, 51, 2), (54, 24, 0), (55, 51, 4), (56, 55, 33), (57, 24, 0), (58, 51, 3), (59, 24, 0), (60, 51, 2), (61, 24, 0), (62, 51, 3), (63, 24, 0), (64, 51, 3), (65, 24, 0), (66, 51, 3), (67, 24, 0), (68, 51, 6), (69, 24, 0), (70, 51, 6), (71, 24, 0), (72, 51, 4), (73, 24, 0), (74, 51, 3), (75, 24, 0), (76, 51, 4), (77, 24, 0), (78, 51, 3), (79, 55, 49), (80, 24, 0), (81, 51, 3), (82, 24, 0), (83, 51, 4), (84, 24, 0), (85, 51, 5), (86, 24, 0), (87, 51, 5), (88, 22, 0), (89, 22, 0), (90, 3, 0), (91, 50, 2001), (92, 50, 2001), (93, 52, 2001), (94, 50, 2001), (95, 22, 0), (96, 22, 0), (97, 22, 0), (98, 22, 0), (99, 22, 0), (100, 22, 0), (101, 22, 0), (102, 22, 0), (103, 50, 17), (104, 50, 17), (105, 4, 0), (106, 22, 0), (107, 4, 0), (108, 22, 0), (109, 22, 0), (110, 50, 101), (111, 22, 0), (112, 22, 0), (113, 22, 0), (114, 54, 24), (115, 50, 400), (116, 50, 700), (117, 50, 2), (118, 50, 2), (119, 50, 180), (120, 50, 180), (121, 50, 180), (122, 50, 180), (123, 50, 180), (124, 50, 180), (125, 50, 180), (126, 54, 180), (127, 54, 180), (128, 52, 180), (129, 50, 180), (130, 50, 180), (131, 50, 180), (132, 52, 32400), (133, 4, 0), (134, 22, 0), (135, 4, 0), (136, 22, 0), (137, 54, 24), (138, 52, 180), (139, 52, 180), (140, 50, 180), (141, 50, 181), (142, 50, 180), (143, 50, 180), (144, 52, 180), (145, 50, 180), (146, 50, 180), (147, 50, 180), (148, 52, 24), (149, 50, 625), (150, 50, 25), (151, 5, 0), (152, 50, 180), (153, 50, 180), (154, 50, 96), (155, 50, 96), (156, 52, 24), (157, 52, 12), (158, 50, 180), (159, 50, 180), (160, 50, 180), (161, 50, 180), (162, 50, 180), (163, 50, 96), (164, 50, 96), (165, 50, 180), (166, 50, 625)]
def fixR : List (Nat × Nat × Nat) := [(0, 1, 2), (2, 1, 3), (200, 4, 5), (4600, 7, 8), (4600, 10, 11), (4600, 12, 13), (4600, 14, 15), (4600, 16, 17), (4600, 18, 19), (4600, 20, 21), (4600, 22, 23), (4600, 24, 25), (4600, 26, 27), (4600, 28, 29), (4600, 31, 32), (4600, 33, 34), (4600, 35, 36), (4600, 37, 38), (4600, 39, 40), (4600, 42, 43), (4600, 44, 45), (4600, 46, 47), (4600, 48, 49), (4600, 50, 51), (4600, 52, 53), (4600, 54, 55), (4600, 57, 58), (4600, 59, 60), (4600, 61, 62), (4600, 63, 64), (4600, 65, 66), (4600, 67, 68), (4600, 69, 70), (4600, 71, 72), (4600, 73, 74), (4600, 75, 76), (4600, 77, 78), (4600, 80, 81), (4600, 82, 83), (4600, 84, 85), (4600, 86, 87), (6, 1, 4), (7, 1, 88), (8, 1, 89), (412, 90, 1), (400, 90, 91), (401, 90, 92), (402, 90, 93), (403, 90, 94), (407, 90, 95), (409, 90, 96), (410, 90, 97), (10, 1, 90), (11, 1, 98), (12, 1, 99), (13, 1, 100), (14, 1, 101), (19, 1, 102), (22, 1, 103), (23, 1, 104), (600, 105, 106), (25, 1, 105), (600, 107, 108), (26, 1, 107), (28, 1, 109), (29, 1, 110), (34, 1, 111), (36, 1, 112), (38, 1, 113), (40, 1, 114), (42, 1, 115), (44, 1, 116), (47, 1, 117), (48, 1, 118), (50, 1, 119), (51, 1, 120), (52, 1, 121), (53, 1, 122), (54, 1, 123), (55, 1, 124), (56, 1, 125), (58, 1, 126), (59, 1, 127), (60, 1, 128), (61, 1, 129), (62, 1, 130), (63, 1, 131), (64, 1, 132), (600, 133, 134), (67, 1, 133), (600, 135, 136), (68, 1, 135), (70, 1, 137), (71, 1, 138), (72, 1, 139), (73, 1, 140), (76, 1, 141), (77, 1, 142), (78, 1, 143), (79, 1, 144), (80, 1, 145), (81, 1, 146), (82, 1, 147), (87, 1, 148), (88, 1, 149), (89, 1, 150), (801, 151, 152), (802, 151, 153), (803, 151, 154), (804, 151, 155), (805, 151, 156), (806, 151, 157), (98, 1, 151), (99, 1, 158), (100, 1, 159), (101, 1, 160), (102, 1, 161), (103, 1, 162), (104, 1, 163), (105, 1, 164), (106, 1, 165), (107, 1, 166)]
def FX (M : CM) : Prop := (∀ q ∈ fixK, mk M q.1 = q.2.1 ∧ ml M q.1 = q.2.2) ∧ ∀ q ∈ fixR, mR M q.1 q.2.1 = q.2.2
def slSum (z : Nat) (H : Heap) : Nat := ((H.toList.drop z).map (fun c => c.slots.size)).sum
def RC (E : CE) (M : CM) (H : Heap) : Prop := H.size = E.zb + mn M ∧ 1 ≤ mn M ∧ mn M ≤ capN + 1 ∧ ms M ≤ capS ∧ slSum (E.zb + 1) H = ms M ∧ (∀ o, mk M o ≠ 0 → 0 < o ∧ o < mn M ∧ (mk M o ≤ 24 ∨ (50 ≤ mk M o ∧ mk M o ≤ 55))) ∧ (∀ o, cellOK E M o H) ∧ (∀ g o, cbool g = true → isB (mI M g o)) ∧ (∀ a i, mk M a = 52 → isB (mA M a i)) ∧ (E.fx = true → FX M)
abbrev ctys (E : CE) : List (ClassId × FieldType) := [(E.ca 50, .int), (E.ca 51, .byte), (E.ca 52, .boolean), (E.ca 53, .long), (E.ca 54, .object "EquationHouse$Ex"), (E.ca 55, .object "java/lang/Object")]
abbrev CK (E : CE) (U : State) : Prop := va_K (E.dC, E.dI) cclL (ctys E) U
def frC (E : CE) (M0 : CM) : Nat → Prop := fun q => ∃ o, mk M0 o ≠ 0 ∧ q = E.zb + o
def CF (E : CE) (M0 M : CM) (H0 H : Heap) (locs : List Loc) : Prop := mn M0 ≤ mn M ∧ ms M0 ≤ ms M ∧ (∀ q : Nat, q < H0.size → ¬ frC E M0 q → H[q]? = H0[q]?) ∧ (∀ l ∈ locs, E.zb < l.base) ∧ (∀ o, o < mn M0 → mk M o = mk M0 o) ∧ ∀ o, o < mn M0 → ml M o = ml M0 o
