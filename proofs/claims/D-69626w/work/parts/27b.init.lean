/-! ===== the constructors, run once ===== -/
/-- before there is a cell of ours -/
def FT0 (a : Nat) : Nat := bif Nat.beq a 2 then 20 else bif Nat.beq a 6 then 73 else bif Nat.beq a 4 then 80 else bif Nat.blt a 5 then 81 else 255
def FI : Fx := (16, FT0, (fun _ => 0), (fun a k => bif Nat.beq a 2 && Nat.beq k 0 then some 3 else none))
def sg0 : St := ((fun _ => 255), (fun _ => 0), (fun _ _ => 0), (fun _ _ => 0), (fun _ _ => none), 16, 0)
def run1 : Res := Sem FI MT 400 999 22 0 [.ref 16] (nw sg0 0 0 72)
def run2 (t : St) : Res := Sem FI MT 400 999 197 0 [.ref 714] (nw t 8 0 99)
def stOf (r : Res) : St := match r with
  | some (_, t) => t
  | none => sg0
def fin1 : St := stOf run1
def fin2 : St := stOf (run2 fin1)
def isV (r : Res) : Bool := match r with
  | some (.inl none, _) => true
  | _ => false
def oeq (a b : Option Nat) : Bool := match a, b with
  | none, none => true
  | some x, some y => Nat.beq x y
  | _, _ => false
def pileL : List (Nat × Nat) := (List.range 202).map fun k => (k, 23 + 3 * k)
def spanL (a : Nat) : List (Nat × Nat) := [(0, a + 1), (1, a + 2)]
def FRl (a : Nat) : List (Nat × Nat) := bif Nat.blt a 23 then (bif Nat.blt a 11 then (bif Nat.blt a 5 then (bif Nat.blt a 2 then [] else (bif Nat.blt a 3 then [(0, 3)] else [])) else []) else (bif Nat.blt a 17 then (bif Nat.blt a 14 then [] else (bif Nat.blt a 15 then [] else (bif Nat.blt a 16 then [] else [(0, 17), (1, 18), (3, 19), (4, 22), (5, 629), (7, 641), (10, 645), (11, 646), (15, 647), (16, 649), (20, 700), (21, 702), (22, 703), (35, 704), (52, 705), (59, 706), (60, 707), (61, 708), (63, 709), (64, 710), (65, 711), (66, 712), (70, 713)]))) else (bif Nat.blt a 20 then (bif Nat.blt a 18 then [] else (bif Nat.blt a 19 then [] else [(0, 20), (1, 21)])) else (bif Nat.blt a 21 then [] else (bif Nat.blt a 22 then [] else (pileL)))))) else bif Nat.blt a 629 then (bif Nat.beq ((a - 23) % 3) 0 then (spanL a) else []) else (bif Nat.blt a 702 then (bif Nat.blt a 665 then (bif Nat.blt a 647 then (bif Nat.blt a 638 then (bif Nat.blt a 633 then (bif Nat.blt a 631 then (bif Nat.blt a 630 then [(2, 630), (3, 631), (4, 632), (5, 633), (6, 634), (7, 635), (8, 636), (9, 637), (16, 638), (17, 639), (18, 640)] else []) else []) else []) else (bif Nat.blt a 642 then (bif Nat.blt a 640 then [] else (bif Nat.blt a 641 then [] else [(4, 642), (5, 643), (6, 644)])) else [])) else (bif Nat.blt a 656 then (bif Nat.blt a 651 then (bif Nat.blt a 649 then (bif Nat.blt a 648 then [(2, 648)] else []) else (bif Nat.blt a 650 then [(0, 647), (1, 650), (13, 651), (14, 653)] else [])) else (bif Nat.blt a 653 then [] else (bif Nat.blt a 654 then [] else (bif Nat.blt a 655 then [(0, 655), (1, 657), (2, 659), (3, 661), (4, 663), (5, 665), (6, 667), (7, 669), (8, 671), (9, 673), (10, 675)] else [])))) else [])) else (bif Nat.blt a 683 then (bif Nat.blt a 674 then [] else (bif Nat.blt a 678 then (bif Nat.blt a 676 then [] else (bif Nat.blt a 677 then [] else [(0, 678), (1, 680), (2, 682), (3, 684), (4, 686), (5, 688), (6, 690), (7, 692), (8, 694), (9, 696), (10, 698)])) else [])) else (bif Nat.blt a 692 then [] else (bif Nat.blt a 697 then [] else (bif Nat.blt a 699 then [] else (bif Nat.blt a 700 then [] else (bif Nat.blt a 701 then [(2, 701)] else []))))))) else (bif Nat.blt a 739 then (bif Nat.blt a 720 then (bif Nat.blt a 711 then [] else (bif Nat.blt a 715 then (bif Nat.blt a 713 then [] else (bif Nat.blt a 714 then [] else [(0, 715), (1, 716), (2, 717), (4, 718), (6, 719), (7, 720), (8, 721), (9, 722), (17, 723), (18, 724), (19, 725), (24, 726), (25, 727), (28, 728), (30, 729), (31, 730), (32, 731), (33, 732), (40, 755), (43, 756), (47, 757), (49, 758), (50, 759), (64, 760), (76, 761), (77, 762), (78, 763), (83, 764), (84, 765), (85, 766), (86, 767), (89, 768), (90, 769), (91, 770), (92, 771), (93, 772), (95, 773), (96, 774), (98, 775)])) else [])) else (bif Nat.blt a 729 then [] else (bif Nat.blt a 734 then (bif Nat.blt a 731 then [] else (bif Nat.blt a 732 then [] else (bif Nat.blt a 733 then [] else [(0, 734), (2, 735), (3, 736), (4, 737), (5, 738), (7, 739), (8, 740), (9, 741), (10, 742), (11, 743)]))) else []))) else (bif Nat.blt a 757 then (bif Nat.blt a 748 then (bif Nat.blt a 743 then [] else (bif Nat.blt a 745 then (bif Nat.blt a 744 then [] else [(0, 745), (2, 746), (3, 747), (4, 748), (5, 749), (7, 750), (8, 751), (9, 752), (10, 753), (11, 754)]) else [])) else []) else [])))
def chkT (t : St) : Bool := Nat.beq (nx t) 776 && Nat.ble (sl t) 1000000 && (List.range 760).all fun i => Nat.beq (t.1 (i + 16)) (FT (i + 16)) && Nat.beq (t.2.1 (i + 16)) (FLn (i + 16))
def chkR (t : St) : Bool := (List.range 760).all fun i => (FRl (i + 16)).all fun q => oeq (t.2.2.2.2.1 (i + 16) q.1) (some q.2)
/-- what the constructors leave in the fields -/
def exI (a k : Nat) : Int32 := bif (Nat.beq a 16 && Nat.beq k 14) || (Nat.beq a 714 && Nat.beq k 46) then -1 else bif (Nat.beq a 16 && Nat.beq k 69) || (Nat.beq a 714 && Nat.beq k 97) then 100 else 0
def zIs : List (Nat × Nat) := [(16, 72), (17, 3), (18, 6), (629, 19), (641, 10), (647, 2), (649, 15), (651, 2), (700, 2), (714, 99), (733, 13), (744, 13), (718, 6), (730, 13)] ++ (List.range 11).flatMap fun i => [(655 + 2 * i, 2), (678 + 2 * i, 2)]
def zJs : List (Nat × Nat) := [(16, 72), (641, 10), (714, 99), (702, 200), (759, 200)]
def zRs : List (Nat × Nat × Option Nat) := [(16, 8, none), (16, 9, none), (16, 17, some 654), (16, 18, some 677), (17, 1, some 6), (649, 3, none), (651, 0, some 652), (714, 34, some 733), (714, 35, some 744), (714, 37, none)] ++ ((List.range 11).flatMap fun i => [(655 + 2 * i, 0, some (656 + 2 * i)), (678 + 2 * i, 0, some (679 + 2 * i))]) ++ (List.range 13).map fun i => (645, i, none)
def chkZ (t : St) : Bool := (zIs.all fun q => (List.range q.2).all fun k => decide (t.2.2.1 q.1 k = exI q.1 k)) && (zJs.all fun q => (List.range q.2).all fun k => decide (t.2.2.2.1 q.1 k = 0)) && zRs.all fun q => oeq (t.2.2.2.2.1 q.1 q.2.1) q.2.2
theorem all_v : (isV run1 && (Nat.beq (nx fin1) 714 && (isV (run2 fin1) && (chkT fin2 && (chkR fin2 && chkZ fin2))))) = true := by decide +kernel
theorem andT {a b : Bool} (h : (a && b) = true) : a = true ∧ b = true := (Bool.and_eq_true a b).mp h
theorem run1_v : isV run1 = true := (andT all_v).1
theorem nx_aux {a b : Bool} {n : Nat} (h : (a && (Nat.beq n 714 && b)) = true) : n = 714 := Nat.eq_of_beq_eq_true (andT (andT h).2).1
theorem nx_fin1 : nx fin1 = 714 := nx_aux all_v
theorem run2_v : isV (run2 fin1) = true := (andT (andT (andT all_v).2).2).1
theorem fin2_T : chkT fin2 = true := (andT (andT (andT (andT all_v).2).2).2).1
theorem fin2_R : chkR fin2 = true := (andT (andT (andT (andT (andT all_v).2).2).2).2).1
theorem fin2_Z : chkZ fin2 = true := (andT (andT (andT (andT (andT all_v).2).2).2).2).2
