set_option maxRecDepth 100000
/-! ===== the first store; the law from its entry; the claim out of the plain law ===== -/
def hi_n : List (Nat × Nat × Int32) := [(0, 11, (-1)), (0, 17, 100000), (14, 16, (-1)), (18, 0, 20), (20, 5, 1), (23, 86, 100000)]
def hi_i (o f : Nat) : Int32 := match o, f with
  | 0, 11 => (-1)
  | 0, 17 => 100000
  | 14, 16 => (-1)
  | 18, 0 => 20
  | 20, 5 => 1
  | 23, 86 => 100000
  | _, _ => 0
def hi_ll : List (List Nat) := [[], [15, 15, 15], [0, 64, 64, 64, 0, 256], [256], [256], [0, 0, 0, 20], [256, 256, 256, 256, 256, 256, 256, 256, 256, 256], [0, 0, 0, 1024, 1024], [0, 0, 0, 0, 0, 0, 0, 64, 64], [], [256, 256, 256, 256, 0, 256, 200], [256, 256, 256, 0, 64], [256], [1024, 0, 256, 0, 256, 256], [0, 0, 0, 0, 0, 0, 0, 0, 64, 256, 4], [], [0, 0, 256, 256, 256, 256], [0, 0, 0, 1024, 0, 64, 0, 128], [0, 262144, 262144, 256], [9], [0, 0, 0, 32], [0, 192, 192], [256], [15, 43, 15, 15, 0, 4096, 0, 4096, 0, 0, 0, 4100, 4100, 4100, 4100, 0, 0, 0, 4200, 4200, 4200, 4200, 4200, 4200, 4200, 4200, 4200, 4200, 0, 0, 0, 2048, 2048, 2048, 0, 0, 0, 0, 0, 2100, 2100, 2100, 0, 0, 600, 600, 0, 0, 0, 0, 0, 0, 0, 0, 2100, 2100, 2100, 2100, 2100, 0, 0, 600, 0, 0, 0, 0, 37000, 0, 0, 0, 200000, 200000, 0, 200000, 0, 300, 300, 0, 0, 0, 0, 0, 1024, 0, 64, 128], [1]]
def hi_l (o f : Nat) : Nat := (hi_ll.getD o []).getD f 0
def hi_c (o f : Nat) : Nat → Int32 := match o, f with
  | 1, 0 => fun i => ([0, 1, 2, 3, 4, 5, 6, 7, 8, 9, 10, 11, 12, 13, 14] : List Int32).getD i 0
  | 1, 1 => fun i => ([15, 16, 17, 18, 19, 20, 21, 22, 23, 24, 25, 26, 27, 28, 29] : List Int32).getD i 0
  | 1, 2 => fun i => ([30, 31, 32, 33, 33, 34, 33, 35, 35, 31, 33, 32, 36, 37, 38] : List Int32).getD i 0
  | 2, 5 => fun _ => -1
  | 5, 3 => fun i => ([122, 123, 124, 125, 126, 127, 128, 129, 130, 131, 132, 133, 134, 135, 136, 137, 138, 139, 140, 141] : List Int32).getD i 0
  | 19, 0 => upd (upd (fun _ => 0) 7 (-1)) 8 (-1)
  | 23, 0 => fun i => ([39, 40, 41, 42, 43, 44, 45, 46, 47, 48, 49, 50, 51, 52, 53] : List Int32).getD i 0
  | 23, 1 => fun i => ([54, 55, 56, 57, 58, 59, 60, 61, 62, 63, 64, 65, 66, 67, 68, 69, 70, 71, 72, 73, 74, 75, 76, 77, 78, 79, 80, 81, 82, 83, 84, 85, 86, 87, 88, 89, 90, 91, 92, 93, 94, 95, 96] : List Int32).getD i 0
  | 23, 2 => fun i => ([97, 98, 99, 100, 101, 102, 103, 104, 105, 106, 107, 108, 109, 110, 111] : List Int32).getD i 0
  | 23, 3 => fun i => ([112, 113, 114, 115, 115, 116, 115, 117, 117, 113, 115, 114, 118, 119, 120] : List Int32).getD i 0
  | _, _ => fun _ => 0
/-- the store that the constructors leave -/
def hi_s : hc_St := (hi_i, hi_l, hi_c, 600259, 6020924)
def hi_E (E : hc_E) (x0 x23 q3 : Nat) (r1 r2 : Nat → Nat) : hc_E := (E.1, fun o => ([x0, (r1 78), (r1 74), (r1 73), (r1 67), (r1 65), (r1 63), (r1 52), (r1 49), (r1 48), (r1 47), (r1 40), (r1 35), (r1 31), (r1 26), (r1 22), (r1 21), (r1 16), (r1 15), (r1 11), (r1 9), (r1 7), (r1 1), x23] : List Nat).getD o 0, E.2.2)
def hi_am (x0 x23 q3 : Nat) (r1 r2 : Nat → Nat) : Nat → Nat → Nat := fun o f => ((([[], [(r1 77), (r1 76), (r1 75)], [0, (r1 71), (r1 70), (r1 69), 0, (r1 68)], [(r1 72)], [(r1 66)], [0, 0, 0, (r1 64)], [(r1 62), (r1 61), (r1 60), (r1 59), (r1 58), (r1 57), (r1 56), (r1 55), (r1 54), (r1 53)], [0, 0, 0, (r1 51), (r1 50)], [0, 0, 0, 0, 0, 0, 0, (r1 33), (r1 32)], [], [(r1 46), (r1 45), (r1 44), (r1 43), 0, (r1 42), (r1 41)], [(r1 39), (r1 38), (r1 37), 0, (r1 36)], [(r1 34)], [(r1 30), 0, (r1 29), 0, (r1 28), (r1 27)], [0, 0, 0, 0, 0, 0, 0, 0, (r1 25), (r1 24), (r1 23)], [], [0, 0, (r1 20), (r1 19), (r1 18), (r1 17)], [0, 0, 0, (r1 4), 0, (r1 3), 0, (r1 2)], [0, (r1 14), (r1 13), (r1 12)], [(r1 10)], [0, 0, 0, (r1 8)], [0, (r1 6), (r1 5)], [(r1 0)], [(r2 42), (r2 41), (r2 40), (r2 39), 0, (r2 38), 0, (r2 37), 0, 0, 0, (r2 36), (r2 35), (r2 34), (r2 33), 0, 0, 0, (r2 32), (r2 31), (r2 30), (r2 29), (r2 28), (r2 27), (r2 26), (r2 25), (r2 24), (r2 23), 0, 0, 0, (r2 22), (r2 21), (r2 20), 0, 0, 0, 0, 0, (r2 19), (r2 18), (r2 17), 0, 0, (r2 16), (r2 15), 0, 0, 0, 0, 0, 0, 0, 0, (r2 14), (r2 13), (r2 12), (r2 11), (r2 10), 0, 0, (r2 9), 0, 0, 0, 0, (r2 8), 0, 0, 0, (r2 7), (r2 6), 0, (r2 5), 0, (r2 4), (r2 3), 0, 0, 0, 0, 0, (r2 2), 0, (r2 1), (r2 0)], [q3]] : List (List Nat)).getD o []).getD f 0)
def hi_w (E : hc_E) (x0 x23 q3 : Nat) (r1 r2 : Nat → Nat) : va_W := [(x0, .inr (0, [.ref (r1 78), .ref (r1 74), .ref (r1 67), .ref (r1 65), .ref (r1 63), .ref (r1 52), .ref (r1 49), .ref (r1 31), .ref (r1 26), .ref (r1 16), .ref (r1 1), .int (-1), .int 0, .int 0, .int 0, .int 0, .int 0, .int 100000])),
  ((r1 78), .inr (1, [.ref (r1 77), .ref (r1 76), .ref (r1 75)])),
  ((r1 74), .inr (2, [.ref (r1 73), .ref (r1 71), .ref (r1 70), .ref (r1 69), .int 0, .ref (r1 68)])),
  ((r1 73), .inr (3, [.ref (r1 72), .int 0])),
  ((r1 67), .inr (3, [.ref (r1 66), .int 0])),
  ((r1 65), .inr (4, [.ref (r1 78), .ref (r1 74), .ref (r1 67), .ref (r1 64), .null, .int 0, .int 0, .int 0, .int 0, .int 0, .int 0])),
  ((r1 63), .inr (5, [.ref (r1 62), .ref (r1 61), .ref (r1 60), .ref (r1 59), .ref (r1 58), .ref (r1 57), .ref (r1 56), .ref (r1 55), .ref (r1 54), .ref (r1 53), .int 0])),
  ((r1 52), .inr (6, [.ref (r1 65), .ref (r1 63), .int 0, .ref (r1 51), .ref (r1 50), .int 0])),
  ((r1 49), .inr (7, [.ref (r1 63), .ref (r1 74), .ref (r1 78), .ref (r1 48), .ref (r1 47), .ref (r1 40), .ref (r1 35), .ref (r1 33), .ref (r1 32), .int 0, .int 0, .int 0, .int 0, .int 0, .int 0, .int 0])),
  ((r1 48), .inr (8, [.int 0, .int 0])),
  ((r1 47), .inr (9, [.ref (r1 46), .ref (r1 45), .ref (r1 44), .ref (r1 43), .int 0, .ref (r1 42), .ref (r1 41), .int 0])),
  ((r1 40), .inr (10, [.ref (r1 39), .ref (r1 38), .ref (r1 37), .int 0, .ref (r1 36), .int 0])),
  ((r1 35), .inr (3, [.ref (r1 34), .int 0])),
  ((r1 31), .inr (11, [.ref (r1 30), .int 0, .ref (r1 29), .int 0, .ref (r1 28), .ref (r1 27), .int 0])),
  ((r1 26), .inr (12, [.ref (r1 63), .ref (r1 49), .ref (r1 40), .ref (r1 78), .ref (r1 67), .ref (r1 31), .ref (r1 22), .ref (r1 21), .ref (r1 25), .ref (r1 24), .ref (r1 23), .int 0, .int 0, .int 0, .int 0, .int 0, .int (-1), .int 0, .int 0])),
  ((r1 22), .inr (13, [.ref (r1 63), .int 0])),
  ((r1 21), .inr (14, [.ref (r1 63), .ref (r1 40), .ref (r1 20), .ref (r1 19), .ref (r1 18), .ref (r1 17), .int 0, .int 0, .int 0])),
  ((r1 16), .inr (15, [.ref (r1 15), .ref (r1 11), .ref (r1 9), .ref (r1 4), .int 0, .ref (r1 3), .int 0, .ref (r1 2), .int 0])),
  ((r1 15), .inr (16, [.int 20, .ref (r1 14), .ref (r1 13), .ref (r1 12), .int 0])),
  ((r1 11), .inr (17, [.ref (r1 10)])),
  ((r1 9), .inr (18, [.ref (r1 15), .ref (r1 11), .ref (r1 7), .ref (r1 8), .int 0, .int 1, .int 0])),
  ((r1 7), .inr (19, [.ref (r1 15), .ref (r1 6), .ref (r1 5), .int 0, .int 0])),
  ((r1 1), .inr (3, [.ref (r1 0), .int 0])),
  (x23, .inr (20, [.ref (r2 42), .ref (r2 41), .ref (r2 40), .ref (r2 39), .int 0, .ref (r2 38), .int 0, .ref (r2 37), .int 0, .int 0, .int 0, .ref (r2 36), .ref (r2 35), .ref (r2 34), .ref (r2 33), .int 0, .int 0, .int 0, .ref (r2 32), .ref (r2 31), .ref (r2 30), .ref (r2 29), .ref (r2 28), .ref (r2 27), .ref (r2 26), .ref (r2 25), .ref (r2 24), .ref (r2 23), .int 0, .int 0, .int 0, .ref (r2 22), .ref (r2 21), .ref (r2 20), .int 0, .int 0, .int 0, .int 0, .int 0, .ref (r2 19), .ref (r2 18), .ref (r2 17), .int 0, .int 0, .ref (r2 16), .ref (r2 15), .int 0, .int 0, .int 0, .int 0, .int 0, .int 0, .int 0, .int 0, .ref (r2 14), .ref (r2 13), .ref (r2 12), .ref (r2 11), .ref (r2 10), .int 0, .int 0, .ref (r2 9), .int 0, .int 0, .int 0, .int 0, .ref (r2 8), .int 0, .int 0, .int 0, .ref (r2 7), .ref (r2 6), .int 0, .ref (r2 5), .int 0, .ref (r2 4), .ref (r2 3), .int 0, .int 0, .int 0, .int 0, .int 0, .ref (r2 2), .int 0, .ref (r2 1), .ref (r2 0), .int 100000])),
  ((r1 77), .inl (E.2.2.1 4, 15, .inr (.inr (.inr (.inr (hn_sf E [0, 1, 2, 3, 4, 5, 6, 7, 8, 9, 10, 11, 12, 13, 14])))))),
  ((r1 76), .inl (E.2.2.1 4, 15, .inr (.inr (.inr (.inr (hn_sf E [15, 16, 17, 18, 19, 20, 21, 22, 23, 24, 25, 26, 27, 28, 29])))))),
  ((r1 75), .inl (E.2.2.1 4, 15, .inr (.inr (.inr (.inr (hn_sf E [30, 31, 32, 33, 33, 34, 33, 35, 35, 31, 33, 32, 36, 37, 38])))))),
  ((r1 71), .inl (E.2.2.1 1, 64, .inl (fun _ => 0))),
  ((r1 70), .inl (E.2.2.1 1, 64, .inl (fun _ => 0))),
  ((r1 69), .inl (E.2.2.1 1, 64, .inl (fun _ => 0))),
  ((r1 68), .inl (E.2.2.1 1, 256, .inl (fun _ => -1))),
  ((r1 72), .inl (E.2.2.1 2, 256, .inl (fun _ => 0))),
  ((r1 66), .inl (E.2.2.1 2, 256, .inl (fun _ => 0))),
  ((r1 64), .inl (E.2.2.1 4, 20, .inr (.inr (.inr (.inr (hn_sf E [122, 123, 124, 125, 126, 127, 128, 129, 130, 131, 132, 133, 134, 135, 136, 137, 138, 139, 140, 141])))))),
  ((r1 62), .inl (E.2.2.1 1, 256, .inl (fun _ => 0))),
  ((r1 61), .inl (E.2.2.1 1, 256, .inl (fun _ => 0))),
  ((r1 60), .inl (E.2.2.1 1, 256, .inl (fun _ => 0))),
  ((r1 59), .inl (E.2.2.1 1, 256, .inl (fun _ => 0))),
  ((r1 58), .inl (E.2.2.1 1, 256, .inl (fun _ => 0))),
  ((r1 57), .inl (E.2.2.1 1, 256, .inl (fun _ => 0))),
  ((r1 56), .inl (E.2.2.1 1, 256, .inl (fun _ => 0))),
  ((r1 55), .inl (E.2.2.1 1, 256, .inl (fun _ => 0))),
  ((r1 54), .inl (E.2.2.1 1, 256, .inl (fun _ => 0))),
  ((r1 53), .inl (E.2.2.1 1, 256, .inl (fun _ => 0))),
  ((r1 51), .inl (E.2.2.1 1, 1024, .inl (fun _ => 0))),
  ((r1 50), .inl (E.2.2.1 1, 1024, .inl (fun _ => 0))),
  ((r1 33), .inl (E.2.2.1 1, 64, .inl (fun _ => 0))),
  ((r1 32), .inl (E.2.2.1 1, 64, .inl (fun _ => 0))),
  ((r1 46), .inl (E.2.2.1 1, 256, .inl (fun _ => 0))),
  ((r1 45), .inl (E.2.2.1 1, 256, .inl (fun _ => 0))),
  ((r1 44), .inl (E.2.2.1 1, 256, .inl (fun _ => 0))),
  ((r1 43), .inl (E.2.2.1 1, 256, .inl (fun _ => 0))),
  ((r1 42), .inl (E.2.2.1 1, 256, .inl (fun _ => 0))),
  ((r1 41), .inl (E.2.2.1 1, 200, .inl (fun _ => 0))),
  ((r1 39), .inl (E.2.2.1 1, 256, .inl (fun _ => 0))),
  ((r1 38), .inl (E.2.2.1 1, 256, .inl (fun _ => 0))),
  ((r1 37), .inl (E.2.2.1 1, 256, .inl (fun _ => 0))),
  ((r1 36), .inl (E.2.2.1 1, 64, .inl (fun _ => 0))),
  ((r1 34), .inl (E.2.2.1 2, 256, .inl (fun _ => 0))),
  ((r1 30), .inl (E.2.2.1 1, 1024, .inl (fun _ => 0))),
  ((r1 29), .inl (E.2.2.1 1, 256, .inl (fun _ => 0))),
  ((r1 28), .inl (E.2.2.1 1, 256, .inl (fun _ => 0))),
  ((r1 27), .inl (E.2.2.1 1, 256, .inl (fun _ => 0))),
  ((r1 25), .inl (E.2.2.1 1, 64, .inl (fun _ => 0))),
  ((r1 24), .inl (E.2.2.1 1, 256, .inl (fun _ => 0))),
  ((r1 23), .inl (E.2.2.1 1, 4, .inl (fun _ => 0))),
  ((r1 20), .inl (E.2.2.1 1, 256, .inl (fun _ => 0))),
  ((r1 19), .inl (E.2.2.1 1, 256, .inl (fun _ => 0))),
  ((r1 18), .inl (E.2.2.1 1, 256, .inl (fun _ => 0))),
  ((r1 17), .inl (E.2.2.1 1, 256, .inl (fun _ => 0))),
  ((r1 4), .inl (E.2.2.1 1, 1024, .inl (fun _ => 0))),
  ((r1 3), .inl (E.2.2.1 1, 64, .inl (fun _ => 0))),
  ((r1 2), .inl (E.2.2.1 1, 128, .inl (fun _ => 0))),
  ((r1 14), .inl (E.2.2.1 1, 262144, .inl (fun _ => 0))),
  ((r1 13), .inl (E.2.2.1 2, 262144, .inl (fun _ => 0))),
  ((r1 12), .inl (E.2.2.1 3, 256, .inl (fun _ => 0))),
  ((r1 10), .inl (E.2.2.1 1, 9, .inl (upd (upd (fun _ => 0) 7 (-1)) 8 (-1)))),
  ((r1 8), .inl (E.2.2.1 1, 32, .inl (fun _ => 0))),
  ((r1 6), .inl (E.2.2.1 1, 192, .inl (fun _ => 0))),
  ((r1 5), .inl (E.2.2.1 1, 192, .inl (fun _ => 0))),
  ((r1 0), .inl (E.2.2.1 2, 256, .inl (fun _ => 0))),
  ((r2 42), .inl (E.2.2.1 4, 15, .inr (.inr (.inr (.inr (hn_sf E [39, 40, 41, 42, 43, 44, 45, 46, 47, 48, 49, 50, 51, 52, 53])))))),
  ((r2 41), .inl (E.2.2.1 4, 43, .inr (.inr (.inr (.inr (hn_sf E [54, 55, 56, 57, 58, 59, 60, 61, 62, 63, 64, 65, 66, 67, 68, 69, 70, 71, 72, 73, 74, 75, 76, 77, 78, 79, 80, 81, 82, 83, 84, 85, 86, 87, 88, 89, 90, 91, 92, 93, 94, 95, 96])))))),
  ((r2 40), .inl (E.2.2.1 4, 15, .inr (.inr (.inr (.inr (hn_sf E [97, 98, 99, 100, 101, 102, 103, 104, 105, 106, 107, 108, 109, 110, 111])))))),
  ((r2 39), .inl (E.2.2.1 4, 15, .inr (.inr (.inr (.inr (hn_sf E [112, 113, 114, 115, 115, 116, 115, 117, 117, 113, 115, 114, 118, 119, 120])))))),
  ((r2 38), .inl (E.2.2.1 2, 4096, .inl (fun _ => 0))),
  ((r2 37), .inl (E.2.2.1 2, 4096, .inl (fun _ => 0))),
  ((r2 36), .inl (E.2.2.1 1, 4100, .inl (fun _ => 0))),
  ((r2 35), .inl (E.2.2.1 1, 4100, .inl (fun _ => 0))),
  ((r2 34), .inl (E.2.2.1 2, 4100, .inl (fun _ => 0))),
  ((r2 33), .inl (E.2.2.1 1, 4100, .inl (fun _ => 0))),
  ((r2 32), .inl (E.2.2.1 2, 4200, .inl (fun _ => 0))),
  ((r2 31), .inl (E.2.2.1 1, 4200, .inl (fun _ => 0))),
  ((r2 30), .inl (E.2.2.1 1, 4200, .inl (fun _ => 0))),
  ((r2 29), .inl (E.2.2.1 1, 4200, .inl (fun _ => 0))),
  ((r2 28), .inl (E.2.2.1 1, 4200, .inl (fun _ => 0))),
  ((r2 27), .inl (E.2.2.1 1, 4200, .inl (fun _ => 0))),
  ((r2 26), .inl (E.2.2.1 1, 4200, .inl (fun _ => 0))),
  ((r2 25), .inl (E.2.2.1 1, 4200, .inl (fun _ => 0))),
  ((r2 24), .inl (E.2.2.1 1, 4200, .inl (fun _ => 0))),
  ((r2 23), .inl (E.2.2.1 1, 4200, .inl (fun _ => 0))),
  ((r2 22), .inl (E.2.2.1 1, 2048, .inl (fun _ => 0))),
  ((r2 21), .inl (E.2.2.1 1, 2048, .inl (fun _ => 0))),
  ((r2 20), .inl (E.2.2.1 1, 2048, .inl (fun _ => 0))),
  ((r2 19), .inl (E.2.2.1 1, 2100, .inl (fun _ => 0))),
  ((r2 18), .inl (E.2.2.1 1, 2100, .inl (fun _ => 0))),
  ((r2 17), .inl (E.2.2.1 1, 2100, .inl (fun _ => 0))),
  ((r2 16), .inl (E.2.2.1 1, 600, .inl (fun _ => 0))),
  ((r2 15), .inl (E.2.2.1 1, 600, .inl (fun _ => 0))),
  ((r2 14), .inl (E.2.2.1 2, 2100, .inl (fun _ => 0))),
  ((r2 13), .inl (E.2.2.1 3, 2100, .inl (fun _ => 0))),
  ((r2 12), .inl (E.2.2.1 1, 2100, .inl (fun _ => 0))),
  ((r2 11), .inl (E.2.2.1 1, 2100, .inl (fun _ => 0))),
  ((r2 10), .inl (E.2.2.1 1, 2100, .inl (fun _ => 0))),
  ((r2 9), .inl (E.2.2.1 1, 600, .inl (fun _ => 0))),
  ((r2 8), .inl (E.2.2.1 1, 37000, .inl (fun _ => 0))),
  ((r2 7), .inl (E.2.2.1 1, 200000, .inl (fun _ => 0))),
  ((r2 6), .inl (E.2.2.1 1, 200000, .inl (fun _ => 0))),
  ((r2 5), .inl (E.2.2.1 1, 200000, .inl (fun _ => 0))),
  ((r2 4), .inl (E.2.2.1 1, 300, .inl (fun _ => 0))),
  ((r2 3), .inl (E.2.2.1 1, 300, .inl (fun _ => 0))),
  ((r2 2), .inl (E.2.2.1 1, 1024, .inl (fun _ => 0))),
  ((r2 1), .inl (E.2.2.1 1, 64, .inl (fun _ => 0))),
  ((r2 0), .inl (E.2.2.1 1, 128, .inl (fun _ => 0))),
  (q3, .inl (E.2.2.1 7, 1, .inr (.inl (fun _ => 0))))]
/-- cells by cells: the same place, and what holds of the one holds of the other -/
def hi_R (D : va_G) (cl : List vw_C) (x y : Nat × va_E) : Prop := x.1 = y.1 ∧ ∀ H, va_at D cl x H → va_at D cl y H
def hi_F (D : va_G) (cl : List vw_C) : va_W → va_W → Prop
  | [], [] => True
  | x :: l, y :: m => hi_R D cl x y ∧ hi_F D cl l m
  | _, _ => False
theorem hi_P {D : va_G} {cl : List vw_C} {H : Heap} : ∀ {l m : va_W}, hi_F D cl l m → va_P D cl l H → va_P D cl m H
  | [], [], _, k => k
  | x :: l, y :: m, h, k => by
    intro j q hq
    cases j with
    | zero => cases hq; exact h.1.2 H (k 0 _ rfl)
    | succ j => exact hi_P h.2 (fun i q hi => k (i + 1) q hi) j q hq
theorem hi_fst {D : va_G} {cl : List vw_C} : ∀ {l m : va_W}, hi_F D cl l m → l.map Prod.fst = m.map Prod.fst
  | [], [], _ => rfl
  | x :: l, y :: m, h => by rw [List.map_cons, List.map_cons, h.1.1, hi_fst h.2]
theorem hi_D {A : Nat → Prop} {l m : va_W} (h : l.map Prod.fst = m.map Prod.fst) (k : va_D A l) : va_D A m := by
  have key : ∀ (i : Nat) (q : Nat × va_E), m[i]? = some q → ∃ p, l[i]? = some p ∧ p.1 = q.1 := by
    intro i q hi
    have e := congrArg (fun z : List Nat => z[i]?) h
    simp only [List.getElem?_map, hi, Option.map_some] at e
    cases hl : l[i]? with
    | none => rw [hl] at e; cases e
    | some p => rw [hl] at e; exact ⟨p, rfl, Option.some.inj e⟩
  refine ⟨fun i j p q hp hq e => ?_, fun i q hq => ?_⟩
  · obtain ⟨p', a1, a2⟩ := key i p hp
    obtain ⟨q', b1, b2⟩ := key j q hq
    exact k.1 i j p' q' a1 b1 (by rw [a2, b2, e])
  · obtain ⟨q', b1, b2⟩ := key i q hq
    rw [← b2]; exact k.2 i q' b1
theorem hi_rf {D : va_G} {cl : List vw_C} {x y : Nat × va_E} (h : x = y) : hi_R D cl x y := by subst h; exact ⟨rfl, fun _ z => z⟩
theorem hi_st {D : va_G} {cl : List vw_C} {E : hc_E} {a n : Nat} {L : List Nat} {g : Nat → Int32} (h : ∀ i, i < n → L[i]? = some (g i).toNatClampNeg) : hi_R D cl (a, .inl (E.2.2.1 4, n, .inr (.inr (.inr (.inr (hn_sf E L)))))) (a, .inl (hc_ac E 4 n g)) := by
  refine ⟨rfl, fun H z => ?_⟩
  have z : H[a]? = some (vp_cell (E.2.2.1 4) (n, .inr (.inr (.inr (.inr (hn_sf E L)))))) := z
  show H[a]? = some (vp_cell (E.2.2.1 4) (n, .inr (.inr (.inr (.inr (fun i => some (E.2.2.2.1 (g i).toNatClampNeg)))))))
  rw [z, vp_cell_q, vp_cell_q, hn_arrV (fun i hi => by unfold hn_sf; rw [h i hi])]
  rfl
theorem hi_k3 : hc_nk 3 0 = 0 := by decide +kernel
theorem hi_zb {D : va_G} {cl : List vw_C} {E : hc_E} {a n : Nat} : hi_R D cl (a, .inl (E.2.2.1 3, n, .inl (fun _ => 0))) (a, .inl (hc_ac E 3 n (fun _ => 0))) := by
  refine hi_rf ?_
  show ((a, Sum.inl (E.2.2.1 3, n, Sum.inl (fun _ => 0))) : Nat × va_E) = (a, Sum.inl (E.2.2.1 3, n, Sum.inl (fun _ => hc_nk 3 0)))
  rw [hi_k3]
set_option maxHeartbeats 8000000 in
theorem hi_two (E : hc_E) (x0 x23 q3 : Nat) (r1 r2 : Nat → Nat) : hi_F E.1 hc_cl (hi_w E x0 x23 q3 r1 r2) (hc_ws hc_G0 (hi_E E x0 x23 q3 r1 r2) hi_s (hi_am x0 x23 q3 r1 r2) []) := by
  refine And.intro (hi_rf rfl) ?_
  refine And.intro (hi_rf rfl) ?_
  refine And.intro (hi_rf rfl) ?_
  refine And.intro (hi_rf rfl) ?_
  refine And.intro (hi_rf rfl) ?_
  refine And.intro (hi_rf rfl) ?_
  refine And.intro (hi_rf rfl) ?_
  refine And.intro (hi_rf rfl) ?_
  refine And.intro (hi_rf rfl) ?_
  refine And.intro (hi_rf rfl) ?_
  refine And.intro (hi_rf rfl) ?_
  refine And.intro (hi_rf rfl) ?_
  refine And.intro (hi_rf rfl) ?_
  refine And.intro (hi_rf rfl) ?_
  refine And.intro (hi_rf rfl) ?_
  refine And.intro (hi_rf rfl) ?_
  refine And.intro (hi_rf rfl) ?_
  refine And.intro (hi_rf rfl) ?_
  refine And.intro (hi_rf rfl) ?_
  refine And.intro (hi_rf rfl) ?_
  refine And.intro (hi_rf rfl) ?_
  refine And.intro (hi_rf rfl) ?_
  refine And.intro (hi_rf rfl) ?_
  refine And.intro (hi_rf rfl) ?_
  refine And.intro (hi_st (by decide)) ?_
  refine And.intro (hi_st (by decide)) ?_
  refine And.intro (hi_st (by decide)) ?_
  refine And.intro (hi_rf rfl) ?_
  refine And.intro (hi_rf rfl) ?_
  refine And.intro (hi_rf rfl) ?_
  refine And.intro (hi_rf rfl) ?_
  refine And.intro (hi_rf rfl) ?_
  refine And.intro (hi_rf rfl) ?_
  refine And.intro (hi_st (by decide)) ?_
  refine And.intro (hi_rf rfl) ?_
  refine And.intro (hi_rf rfl) ?_
  refine And.intro (hi_rf rfl) ?_
  refine And.intro (hi_rf rfl) ?_
  refine And.intro (hi_rf rfl) ?_
  refine And.intro (hi_rf rfl) ?_
  refine And.intro (hi_rf rfl) ?_
  refine And.intro (hi_rf rfl) ?_
  refine And.intro (hi_rf rfl) ?_
  refine And.intro (hi_rf rfl) ?_
  refine And.intro (hi_rf rfl) ?_
  refine And.intro (hi_rf rfl) ?_
  refine And.intro (hi_rf rfl) ?_
  refine And.intro (hi_rf rfl) ?_
  refine And.intro (hi_rf rfl) ?_
  refine And.intro (hi_rf rfl) ?_
  refine And.intro (hi_rf rfl) ?_
  refine And.intro (hi_rf rfl) ?_
  refine And.intro (hi_rf rfl) ?_
  refine And.intro (hi_rf rfl) ?_
  refine And.intro (hi_rf rfl) ?_
  refine And.intro (hi_rf rfl) ?_
  refine And.intro (hi_rf rfl) ?_
  refine And.intro (hi_rf rfl) ?_
  refine And.intro (hi_rf rfl) ?_
  refine And.intro (hi_rf rfl) ?_
  refine And.intro (hi_rf rfl) ?_
  refine And.intro (hi_rf rfl) ?_
  refine And.intro (hi_rf rfl) ?_
  refine And.intro (hi_rf rfl) ?_
  refine And.intro (hi_rf rfl) ?_
  refine And.intro (hi_rf rfl) ?_
  refine And.intro (hi_rf rfl) ?_
  refine And.intro (hi_rf rfl) ?_
  refine And.intro (hi_rf rfl) ?_
  refine And.intro (hi_rf rfl) ?_
  refine And.intro (hi_rf rfl) ?_
  refine And.intro (hi_rf rfl) ?_
  refine And.intro (hi_rf rfl) ?_
  refine And.intro (hi_rf rfl) ?_
  refine And.intro (hi_rf rfl) ?_
  refine And.intro hi_zb ?_
  refine And.intro (hi_rf rfl) ?_
  refine And.intro (hi_rf rfl) ?_
  refine And.intro (hi_rf rfl) ?_
  refine And.intro (hi_rf rfl) ?_
  refine And.intro (hi_rf rfl) ?_
  refine And.intro (hi_st (by decide)) ?_
  refine And.intro (hi_st (by decide)) ?_
  refine And.intro (hi_st (by decide)) ?_
  refine And.intro (hi_st (by decide)) ?_
  refine And.intro (hi_rf rfl) ?_
  refine And.intro (hi_rf rfl) ?_
  refine And.intro (hi_rf rfl) ?_
  refine And.intro (hi_rf rfl) ?_
  refine And.intro (hi_rf rfl) ?_
  refine And.intro (hi_rf rfl) ?_
  refine And.intro (hi_rf rfl) ?_
  refine And.intro (hi_rf rfl) ?_
  refine And.intro (hi_rf rfl) ?_
  refine And.intro (hi_rf rfl) ?_
  refine And.intro (hi_rf rfl) ?_
  refine And.intro (hi_rf rfl) ?_
  refine And.intro (hi_rf rfl) ?_
  refine And.intro (hi_rf rfl) ?_
  refine And.intro (hi_rf rfl) ?_
  refine And.intro (hi_rf rfl) ?_
  refine And.intro (hi_rf rfl) ?_
  refine And.intro (hi_rf rfl) ?_
  refine And.intro (hi_rf rfl) ?_
  refine And.intro (hi_rf rfl) ?_
  refine And.intro (hi_rf rfl) ?_
  refine And.intro (hi_rf rfl) ?_
  refine And.intro (hi_rf rfl) ?_
  refine And.intro (hi_rf rfl) ?_
  refine And.intro (hi_rf rfl) ?_
  refine And.intro hi_zb ?_
  refine And.intro (hi_rf rfl) ?_
  refine And.intro (hi_rf rfl) ?_
  refine And.intro (hi_rf rfl) ?_
  refine And.intro (hi_rf rfl) ?_
  refine And.intro (hi_rf rfl) ?_
  refine And.intro (hi_rf rfl) ?_
  refine And.intro (hi_rf rfl) ?_
  refine And.intro (hi_rf rfl) ?_
  refine And.intro (hi_rf rfl) ?_
  refine And.intro (hi_rf rfl) ?_
  refine And.intro (hi_rf rfl) ?_
  refine And.intro (hi_rf rfl) ?_
  refine And.intro (hi_rf rfl) ?_
  refine And.intro (hi_rf rfl) ?_
  exact trivial
def hi_p : List Nat := [124, 123, 119, 118, 112, 110, 108, 97, 94, 93, 92, 85, 80, 76, 71, 67, 66, 61, 60, 56, 54, 52, 46, 44, 122, 121, 120, 116, 115, 114, 113, 117, 111, 109, 107, 106, 105, 104, 103, 102, 101, 100, 99, 98, 96, 95, 78, 77, 91, 90, 89, 88, 87, 86, 84, 83, 82, 81, 79, 75, 74, 73, 72, 70, 69, 68, 65, 64, 63, 62, 49, 48, 47, 59, 58, 57, 55, 53, 51, 50, 45, 43, 42, 41, 40, 39, 38, 37, 36, 35, 34, 33, 32, 31, 30, 29, 28, 27, 26, 25, 24, 23, 22, 21, 20, 19, 18, 17, 16, 15, 14, 13, 12, 11, 10, 9, 8, 7, 6, 5, 4, 3, 2, 1, 0]
theorem hi_nd : va_nd hi_p = true := by decide +kernel
def hi_0 (E : hc_E) (x0 x23 q3 : Nat) (r1 r2 : Nat → Nat) : va_W := (q3, .inl (E.2.2.1 7, 1, .inr (.inl (fun _ => 0)))) :: nc_X21_init E x23 (nc_X1_init E x0 [] r1) r2
theorem hi_map (E : hc_E) (x0 x23 q3 : Nat) (r1 r2 : Nat → Nat) : hi_p.map (fun i => (hi_0 E x0 x23 q3 r1 r2)[i]?) = (hi_w E x0 x23 q3 r1 r2).map some := rfl
theorem hi_fm {α : Type} {l : List α} {is : List Nat} {m : List α} (h : is.map (fun i => l[i]?) = m.map some) : is.filterMap (fun i => l[i]?) = m := by
  induction is generalizing m with
  | nil => cases m with
    | nil => rfl
    | cons a b => cases h
  | cons i is ih => cases m with
    | nil => cases h
    | cons a b =>
      simp only [List.map_cons, List.cons.injEq] at h
      rw [List.filterMap_cons, h.1, ih h.2]
/-- the world of the law's loop -/
theorem hi_fin {E : hc_E} {A : Nat → Prop} {H : Heap} (x0 x23 q3 : Nat) (r1 r2 : Nat → Nat) (hP : va_P E.1 hc_cl (hi_0 E x0 x23 q3 r1 r2) H) (hD : va_D A (hi_0 E x0 x23 q3 r1 r2)) : va_P E.1 hc_cl (hc_ws hc_G0 (hi_E E x0 x23 q3 r1 r2) hi_s (hi_am x0 x23 q3 r1 r2) []) H ∧ va_D A (hc_ws hc_G0 (hi_E E x0 x23 q3 r1 r2) hi_s (hi_am x0 x23 q3 r1 r2) []) := by
  have h2 := hi_two E x0 x23 q3 r1 r2
  exact ⟨hi_P h2 (hP.sub hi_p (hi_fm (hi_map E x0 x23 q3 r1 r2))), hi_D (hi_fst h2) (hD.sub hi_p hi_nd (hi_map E x0 x23 q3 r1 r2))⟩
