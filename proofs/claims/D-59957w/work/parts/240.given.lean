/-! what the Statement gives of the start, printed by tools/gen_tabs.py -/
set_option maxRecDepth 100000
def narL : List Cond := flatC (Jvm.Cond.and given_1 narrow_1)
theorem nar_in {args : Array Value} {s : State} (hgv : (Jvm.Cond.and given_1 narrow_1).before args s = true) (ws : List Cond) (ps : List Nat) (hp : ws = ps.filterMap (fun i => narL[i]?)) : ∀ w ∈ ws, w.before args s = true := by
  intro w h
  rw [hp] at h
  obtain ⟨i, -, hi⟩ := List.mem_filterMap.mp h
  exact flat_of_before _ hgv w (List.mem_of_getElem? hi)
/-- an array of bytes, its length and its elements said -/
def nB (t : Term) (cs : List Int32) : List Cond := Cond.arrayOf t .byte :: Cond.eq (.length t) (.int (Int32.ofNat cs.length)) :: (List.range cs.length).map (fun j => Cond.eq (.elem t (.int (Int32.ofNat j))) (.int (cs.getD j 0)))
def nS1 (k : Nat) (cs : List Int32) : List Cond := Cond.exactly (.string "Aislewright" k) "java/lang/String" :: Cond.eq (.field (.string "Aislewright" k) "java/lang/String" "coder" "B") (.int 0) :: nB (.field (.string "Aislewright" k) "java/lang/String" "value" "[B") cs
theorem nar_105 : nS1 105 [112, 114, 111, 100, 117, 99, 116] = [312, 313, 314, 315, 316, 317, 318, 319, 320, 321, 322].filterMap (fun i => narL[i]?) := by decide +kernel
theorem nar_87 : nS1 87 [110, 111, 32] = [323, 324, 325, 326, 327, 328, 329].filterMap (fun i => narL[i]?) := by decide +kernel
theorem nar_93 : nS1 93 [32] = [331, 332, 333, 334, 335].filterMap (fun i => narL[i]?) := by decide +kernel
theorem nar_135 : nS1 135 [97, 105, 115, 108, 101] = [348, 349, 350, 351, 352, 353, 354, 355, 356].filterMap (fun i => narL[i]?) := by decide +kernel
theorem nar_137 : nS1 137 [112, 111, 115, 105, 116, 105, 111, 110] = [361, 362, 363, 364, 365, 366, 367, 368, 369, 370, 371, 372].filterMap (fun i => narL[i]?) := by decide +kernel
theorem nar_143 : nS1 143 [116, 104, 101, 32, 112, 114, 111, 100, 117, 99, 116, 32, 99, 97, 110, 110, 111, 116, 32, 98, 101, 32, 112, 117, 116, 32, 116, 104, 101, 114, 101] = [378, 379, 380, 381, 382, 383, 384, 385, 386, 387, 388, 389, 390, 391, 392, 393, 394, 395, 396, 397, 398, 399, 400, 401, 402, 403, 404, 405, 406, 407, 408, 409, 410, 411, 412].filterMap (fun i => narL[i]?) := by decide +kernel
theorem nar_149 : nS1 149 [116, 104, 101, 114, 101, 32, 105, 115, 32, 97, 32, 119, 97, 118, 101] = [419, 420, 421, 422, 423, 424, 425, 426, 427, 428, 429, 430, 431, 432, 433, 434, 435, 436, 437].filterMap (fun i => narL[i]?) := by decide +kernel
theorem nar_166 : nS1 166 [97, 32, 112, 114, 111, 100, 117, 99, 116, 32, 105, 115, 32, 97, 116, 32, 110, 111, 32, 112, 108, 97, 99, 101] = [485, 486, 487, 488, 489, 490, 491, 492, 493, 494, 495, 496, 497, 498, 499, 500, 501, 502, 503, 504, 505, 506, 507, 508, 509, 510, 511, 512].filterMap (fun i => narL[i]?) := by decide +kernel
theorem nar_121 : nS1 121 [32, 105, 115, 32, 110, 111, 116, 32, 102, 114, 111, 109, 32] = [523, 524, 525, 526, 527, 528, 529, 530, 531, 532, 533, 534, 535, 536, 537, 538, 539].filterMap (fun i => narL[i]?) := by decide +kernel
theorem nar_123 : nS1 123 [32, 116, 111, 32] = [551, 552, 553, 554, 555, 556, 557, 558].filterMap (fun i => narL[i]?) := by decide +kernel
theorem nar_175 : nS1 175 [116, 104, 101, 114, 101, 32, 97, 114, 101, 32, 116, 111, 111, 32, 109, 97, 110, 121, 32, 111, 114, 100, 101, 114, 115] = [571, 572, 573, 574, 575, 576, 577, 578, 579, 580, 581, 582, 583, 584, 585, 586, 587, 588, 589, 590, 591, 592, 593, 594, 595, 596, 597, 598, 599].filterMap (fun i => narL[i]?) := by decide +kernel
theorem nar_111 : nS1 111 [111, 114, 100, 101, 114] = [613, 614, 615, 616, 617, 618, 619, 620, 621].filterMap (fun i => narL[i]?) := by decide +kernel
theorem nar_196 : nS1 196 [116, 104, 101, 32, 108, 105, 110, 101, 32, 99, 97, 110, 110, 111, 116, 32, 98, 101, 32, 119, 114, 105, 116, 116, 101, 110] = [636, 637, 638, 639, 640, 641, 642, 643, 644, 645, 646, 647, 648, 649, 650, 651, 652, 653, 654, 655, 656, 657, 658, 659, 660, 661, 662, 663, 664, 665].filterMap (fun i => narL[i]?) := by decide +kernel
theorem nar_217 : nS1 217 [116, 104, 101, 32, 99, 97, 112, 97, 99, 105, 116, 121, 32, 99, 97, 110, 110, 111, 116, 32, 98, 101, 32, 115, 101, 116] = [681, 682, 683, 684, 685, 686, 687, 688, 689, 690, 691, 692, 693, 694, 695, 696, 697, 698, 699, 700, 701, 702, 703, 704, 705, 706, 707, 708, 709, 710].filterMap (fun i => narL[i]?) := by decide +kernel
theorem nar_225 : nS1 225 [110, 111, 32, 111, 114, 100, 101, 114, 32, 99, 97, 110, 32, 98, 101, 32, 116, 97, 107, 101, 110] = [727, 728, 729, 730, 731, 732, 733, 734, 735, 736, 737, 738, 739, 740, 741, 742, 743, 744, 745, 746, 747, 748, 749, 750, 751].filterMap (fun i => narL[i]?) := by decide +kernel
theorem nar_115 : nS1 115 [98, 97, 116, 99, 104] = [769, 770, 771, 772, 773, 774, 775, 776, 777].filterMap (fun i => narL[i]?) := by decide +kernel
theorem nar_275 : nS1 275 [116, 104, 101, 114, 101, 32, 97, 114, 101, 32, 116, 111, 111, 32, 109, 97, 110, 121, 32, 112, 108, 97, 99, 101, 115] = [796, 797, 798, 799, 800, 801, 802, 803, 804, 805, 806, 807, 808, 809, 810, 811, 812, 813, 814, 815, 816, 817, 818, 819, 820, 821, 822, 823, 824].filterMap (fun i => narL[i]?) := by decide +kernel
theorem nar_289 : nS1 289 [115, 116, 111, 112] = [844, 845, 846, 847, 848, 849, 850, 851].filterMap (fun i => narL[i]?) := by decide +kernel
def csDigitTens : List Int32 := [48, 48, 48, 48, 48, 48, 48, 48, 48, 48, 49, 49, 49, 49, 49, 49, 49, 49, 49, 49, 50, 50, 50, 50, 50, 50, 50, 50, 50, 50, 51, 51, 51, 51, 51, 51, 51, 51, 51, 51, 52, 52, 52, 52, 52, 52, 52, 52, 52, 52, 53, 53, 53, 53, 53, 53, 53, 53, 53, 53, 54, 54, 54, 54, 54, 54, 54, 54, 54, 54, 55, 55, 55, 55, 55, 55, 55, 55, 55, 55, 56, 56, 56, 56, 56, 56, 56, 56, 56, 56, 57, 57, 57, 57, 57, 57, 57, 57, 57, 57]
theorem nar_DigitTens : nB (.static "java/lang/Integer" "DigitTens" "[B") csDigitTens = [119, 120, 121, 122, 123, 124, 125, 126, 127, 128, 129, 130, 131, 132, 133, 134, 135, 136, 137, 138, 139, 140, 141, 142, 143, 144, 145, 146, 147, 148, 149, 150, 151, 152, 153, 154, 155, 156, 157, 158, 159, 160, 161, 162, 163, 164, 165, 166, 167, 168, 169, 170, 171, 172, 173, 174, 175, 176, 177, 178, 179, 180, 181, 182, 183, 184, 185, 186, 187, 188, 189, 190, 191, 192, 193, 194, 195, 196, 197, 198, 199, 200, 201, 202, 203, 204, 205, 206, 207, 208, 209, 210, 211, 212, 213, 214, 215, 216, 217, 218, 219, 220].filterMap (fun i => narL[i]?) := by decide +kernel
def csDigitOnes : List Int32 := [48, 49, 50, 51, 52, 53, 54, 55, 56, 57, 48, 49, 50, 51, 52, 53, 54, 55, 56, 57, 48, 49, 50, 51, 52, 53, 54, 55, 56, 57, 48, 49, 50, 51, 52, 53, 54, 55, 56, 57, 48, 49, 50, 51, 52, 53, 54, 55, 56, 57, 48, 49, 50, 51, 52, 53, 54, 55, 56, 57, 48, 49, 50, 51, 52, 53, 54, 55, 56, 57, 48, 49, 50, 51, 52, 53, 54, 55, 56, 57, 48, 49, 50, 51, 52, 53, 54, 55, 56, 57, 48, 49, 50, 51, 52, 53, 54, 55, 56, 57]
theorem nar_DigitOnes : nB (.static "java/lang/Integer" "DigitOnes" "[B") csDigitOnes = [16, 17, 18, 19, 20, 21, 22, 23, 24, 25, 26, 27, 28, 29, 30, 31, 32, 33, 34, 35, 36, 37, 38, 39, 40, 41, 42, 43, 44, 45, 46, 47, 48, 49, 50, 51, 52, 53, 54, 55, 56, 57, 58, 59, 60, 61, 62, 63, 64, 65, 66, 67, 68, 69, 70, 71, 72, 73, 74, 75, 76, 77, 78, 79, 80, 81, 82, 83, 84, 85, 86, 87, 88, 89, 90, 91, 92, 93, 94, 95, 96, 97, 98, 99, 100, 101, 102, 103, 104, 105, 106, 107, 108, 109, 110, 111, 112, 113, 114, 115, 116, 117].filterMap (fun i => narL[i]?) := by decide +kernel
def nOne : List Cond := [(Jvm.Cond.arrayOf (Jvm.Term.static "java/util/ArrayList" "DEFAULTCAPACITY_EMPTY_ELEMENTDATA" "[Ljava/lang/Object;") (Jvm.ClassFile.FieldType.object "java/lang/Object")),
  (Jvm.Cond.eq (Jvm.Term.length (Jvm.Term.static "java/util/ArrayList" "DEFAULTCAPACITY_EMPTY_ELEMENTDATA" "[Ljava/lang/Object;")) (Jvm.Term.int (0 : Int32))),
  (Jvm.Cond.isRef (Jvm.Term.static "java/lang/Throwable" "UNASSIGNED_STACK" "[Ljava/lang/StackTraceElement;")),
  (Jvm.Cond.isRef (Jvm.Term.static "java/lang/Throwable" "SUPPRESSED_SENTINEL" "Ljava/util/List;")),
  (Jvm.Cond.eq (Jvm.Term.static "java/lang/String" "COMPACT_STRINGS" "Z") (Jvm.Term.int (1 : Int32))),
  (Jvm.Cond.isRef (Jvm.Term.mirror "[Ljava/lang/Object;")),
  (Jvm.Cond.not (Jvm.Cond.castable "java/lang/IllegalArgumentException" "java/lang/IndexOutOfBoundsException")),
  (Jvm.Cond.not (Jvm.Cond.castable "java/lang/IllegalStateException" "java/lang/IndexOutOfBoundsException")),
  (Jvm.Cond.not (Jvm.Cond.castable "java/lang/IllegalStateException" "java/lang/IllegalArgumentException"))]
theorem nar_one : nOne = [5, 7, 8, 9, 10, 311, 235, 236, 264].filterMap (fun i => narL[i]?) := by decide +kernel
