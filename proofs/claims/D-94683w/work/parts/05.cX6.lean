set_option maxRecDepth 100000
abbrev cX6_init : ByteArray := prog_20_method_1_code
def yX6_init : MethodName := ⟨RX6, "<init>", "()V"⟩
def dkwX6_init_41 : List UInt8 := [182, 0, 113, 42, 182, 0, 116, 177]
abbrev dktX6_init_41 : List UInt8 := dkwX6_init_41 ++ []
def dkwX6_init_40 : List UInt8 := [188, 10, 181, 0, 104, 42, 16, 20, 188, 10, 181, 0, 107, 42, 16, 20, 188, 10, 181, 0, 110, 42]
abbrev dktX6_init_40 : List UInt8 := dkwX6_init_40 ++ dktX6_init_41
def dkwX6_init_39 : List UInt8 := [181, 0, 95, 42, 16, 20, 188, 10, 181, 0, 98, 42, 16, 20, 188, 10, 181, 0, 101, 42, 17, 0, 132]
abbrev dktX6_init_39 : List UInt8 := dkwX6_init_39 ++ dktX6_init_40
def dkwX6_init_38 : List UInt8 := [181, 0, 84, 42, 18, 87, 188, 4, 181, 0, 88, 42, 16, 12, 188, 10, 181, 0, 92, 42, 16, 12, 188, 10]
abbrev dktX6_init_38 : List UInt8 := dkwX6_init_38 ++ dktX6_init_39
def dkwX6_init_37 : List UInt8 := [42, 16, 6, 188, 11, 181, 0, 78, 42, 16, 64, 188, 11, 181, 0, 81, 42, 17, 0, 128, 188, 10]
abbrev dktX6_init_37 : List UInt8 := dkwX6_init_37 ++ dktX6_init_38
def dkwX6_init_36 : List UInt8 := [17, 0, 128, 188, 10, 181, 0, 69, 42, 16, 96, 188, 10, 181, 0, 72, 42, 16, 96, 188, 10, 181, 0, 75]
abbrev dktX6_init_36 : List UInt8 := dkwX6_init_36 ++ dktX6_init_37
def dkwX6_init_35 : List UInt8 := [181, 0, 60, 42, 17, 0, 128, 188, 10, 181, 0, 63, 42, 17, 0, 128, 188, 10, 181, 0, 66, 42]
abbrev dktX6_init_35 : List UInt8 := dkwX6_init_35 ++ dktX6_init_36
def dkwX6_init_34 : List UInt8 := [42, 16, 24, 188, 10, 181, 0, 54, 42, 16, 12, 188, 10, 181, 0, 57, 42, 17, 1, 8, 188, 10]
abbrev dktX6_init_34 : List UInt8 := dkwX6_init_34 ++ dktX6_init_35
def dkwX6_init_33 : List UInt8 := [42, 16, 12, 188, 11, 181, 0, 45, 42, 16, 8, 188, 10, 181, 0, 48, 42, 16, 8, 188, 11, 181, 0, 51]
abbrev dktX6_init_33 : List UInt8 := dkwX6_init_33 ++ dktX6_init_34
def dkwX6_init_32 : List UInt8 := [42, 16, 8, 188, 10, 181, 0, 35, 42, 16, 12, 188, 10, 181, 0, 38, 42, 16, 12, 188, 11, 181, 0, 41]
abbrev dktX6_init_32 : List UInt8 := dkwX6_init_32 ++ dktX6_init_33
def dkwX6_init_31 : List UInt8 := [42, 16, 24, 188, 10, 181, 0, 26, 42, 16, 8, 188, 10, 181, 0, 29, 42, 16, 8, 188, 10, 181, 0, 32]
abbrev dktX6_init_31 : List UInt8 := dkwX6_init_31 ++ dktX6_init_32
def dkwX6_init_30 : List UInt8 := [181, 0, 13, 42, 2, 181, 0, 16, 42, 16, 14, 188, 10, 181, 0, 20, 42, 16, 8, 188, 10, 181, 0, 23]
abbrev dktX6_init_30 : List UInt8 := dkwX6_init_30 ++ dktX6_init_31
def dkwX6_init_29 : List UInt8 := [89, 16, 114, 16, 103, 79, 89, 16, 115, 16, 116, 79, 89, 16, 116, 16, 104, 79, 89, 16, 117, 16, 32, 79]
abbrev dktX6_init_29 : List UInt8 := dkwX6_init_29 ++ dktX6_init_30
def dkwX6_init_28 : List UInt8 := [89, 16, 110, 16, 32, 79, 89, 16, 111, 16, 108, 79, 89, 16, 112, 16, 101, 79, 89, 16, 113, 16, 110, 79]
abbrev dktX6_init_28 : List UInt8 := dkwX6_init_28 ++ dktX6_init_29
def dkwX6_init_27 : List UInt8 := [89, 16, 106, 16, 97, 79, 89, 16, 107, 16, 115, 79, 89, 16, 108, 16, 111, 79, 89, 16, 109, 16, 110, 79]
abbrev dktX6_init_27 : List UInt8 := dkwX6_init_27 ++ dktX6_init_28
def dkwX6_init_26 : List UInt8 := [89, 16, 102, 16, 114, 79, 89, 16, 103, 16, 32, 79, 89, 16, 104, 16, 115, 79, 89, 16, 105, 16, 101, 79]
abbrev dktX6_init_26 : List UInt8 := dkwX6_init_26 ++ dktX6_init_27
def dkwX6_init_25 : List UInt8 := [89, 16, 98, 16, 32, 79, 89, 16, 99, 16, 121, 79, 89, 16, 100, 16, 101, 79, 89, 16, 101, 16, 97, 79]
abbrev dktX6_init_25 : List UInt8 := dkwX6_init_25 ++ dktX6_init_26
def dkwX6_init_24 : List UInt8 := [89, 16, 94, 16, 32, 79, 89, 16, 95, 16, 100, 79, 89, 16, 96, 16, 97, 79, 89, 16, 97, 16, 121, 79]
abbrev dktX6_init_24 : List UInt8 := dkwX6_init_24 ++ dktX6_init_25
def dkwX6_init_23 : List UInt8 := [89, 16, 90, 16, 32, 79, 89, 16, 91, 16, 110, 79, 89, 16, 92, 16, 111, 79, 89, 16, 93, 16, 116, 79]
abbrev dktX6_init_23 : List UInt8 := dkwX6_init_23 ++ dktX6_init_24
def dkwX6_init_22 : List UInt8 := [89, 16, 86, 16, 100, 79, 89, 16, 87, 16, 32, 79, 89, 16, 88, 16, 111, 79, 89, 16, 89, 16, 114, 79]
abbrev dktX6_init_22 : List UInt8 := dkwX6_init_22 ++ dktX6_init_23
def dkwX6_init_21 : List UInt8 := [89, 16, 82, 16, 114, 79, 89, 16, 83, 16, 32, 79, 89, 16, 84, 16, 97, 79, 89, 16, 85, 16, 110, 79]
abbrev dktX6_init_21 : List UInt8 := dkwX6_init_21 ++ dktX6_init_22
def dkwX6_init_20 : List UInt8 := [89, 16, 78, 16, 97, 79, 89, 16, 79, 16, 102, 79, 89, 16, 80, 16, 116, 79, 89, 16, 81, 16, 101, 79]
abbrev dktX6_init_20 : List UInt8 := dkwX6_init_20 ++ dktX6_init_21
def dkwX6_init_19 : List UInt8 := [89, 16, 74, 16, 105, 79, 89, 16, 75, 16, 118, 79, 89, 16, 76, 16, 101, 79, 89, 16, 77, 16, 32, 79]
abbrev dktX6_init_19 : List UInt8 := dkwX6_init_19 ++ dktX6_init_20
def dkwX6_init_18 : List UInt8 := [89, 16, 70, 16, 121, 79, 89, 16, 71, 16, 32, 79, 89, 16, 72, 16, 97, 79, 89, 16, 73, 16, 108, 79]
abbrev dktX6_init_18 : List UInt8 := dkwX6_init_18 ++ dktX6_init_19
def dkwX6_init_17 : List UInt8 := [89, 16, 66, 16, 108, 79, 89, 16, 67, 16, 32, 79, 89, 16, 68, 16, 112, 79, 89, 16, 69, 16, 97, 79]
abbrev dktX6_init_17 : List UInt8 := dkwX6_init_17 ++ dktX6_init_18
def dkwX6_init_16 : List UInt8 := [89, 16, 62, 16, 32, 79, 89, 16, 63, 16, 116, 79, 89, 16, 64, 16, 105, 79, 89, 16, 65, 16, 108, 79]
abbrev dktX6_init_16 : List UInt8 := dkwX6_init_16 ++ dktX6_init_17
def dkwX6_init_15 : List UInt8 := [89, 16, 58, 16, 100, 79, 89, 16, 59, 16, 97, 79, 89, 16, 60, 16, 121, 79, 89, 16, 61, 16, 115, 79]
abbrev dktX6_init_15 : List UInt8 := dkwX6_init_15 ++ dktX6_init_16
def dkwX6_init_14 : List UInt8 := [89, 16, 54, 16, 97, 79, 89, 16, 55, 16, 114, 79, 89, 16, 56, 16, 115, 79, 89, 16, 57, 16, 32, 79]
abbrev dktX6_init_14 : List UInt8 := dkwX6_init_14 ++ dktX6_init_15
def dkwX6_init_13 : List UInt8 := [89, 16, 50, 16, 100, 79, 89, 16, 51, 16, 32, 79, 89, 16, 52, 16, 121, 79, 89, 16, 53, 16, 101, 79]
abbrev dktX6_init_13 : List UInt8 := dkwX6_init_13 ++ dktX6_init_14
def dkwX6_init_12 : List UInt8 := [89, 16, 46, 16, 32, 79, 89, 16, 47, 16, 100, 79, 89, 16, 48, 16, 105, 79, 89, 16, 49, 16, 101, 79]
abbrev dktX6_init_12 : List UInt8 := dkwX6_init_12 ++ dktX6_init_13
def dkwX6_init_11 : List UInt8 := [89, 16, 42, 16, 102, 79, 89, 16, 43, 16, 114, 79, 89, 16, 44, 16, 111, 79, 89, 16, 45, 16, 109, 79]
abbrev dktX6_init_11 : List UInt8 := dkwX6_init_11 ++ dktX6_init_12
def dkwX6_init_10 : List UInt8 := [89, 16, 38, 16, 111, 79, 89, 16, 39, 16, 111, 79, 89, 16, 40, 16, 110, 79, 89, 16, 41, 16, 32, 79]
abbrev dktX6_init_10 : List UInt8 := dkwX6_init_10 ++ dktX6_init_11
def dkwX6_init_9 : List UInt8 := [89, 16, 34, 16, 101, 79, 89, 16, 35, 16, 107, 79, 89, 16, 36, 16, 32, 79, 89, 16, 37, 16, 109, 79]
abbrev dktX6_init_9 : List UInt8 := dkwX6_init_9 ++ dktX6_init_10
def dkwX6_init_8 : List UInt8 := [89, 16, 30, 16, 110, 79, 89, 16, 31, 16, 32, 79, 89, 16, 32, 16, 119, 79, 89, 16, 33, 16, 101, 79]
abbrev dktX6_init_8 : List UInt8 := dkwX6_init_8 ++ dktX6_init_9
def dkwX6_init_7 : List UInt8 := [89, 16, 26, 16, 101, 79, 89, 16, 27, 16, 32, 79, 89, 16, 28, 16, 115, 79, 89, 16, 29, 16, 117, 79]
abbrev dktX6_init_7 : List UInt8 := dkwX6_init_7 ++ dktX6_init_8
def dkwX6_init_6 : List UInt8 := [89, 16, 22, 16, 32, 79, 89, 16, 23, 16, 110, 79, 89, 16, 24, 16, 111, 79, 89, 16, 25, 16, 116, 79]
abbrev dktX6_init_6 : List UInt8 := dkwX6_init_6 ++ dktX6_init_7
def dkwX6_init_5 : List UInt8 := [89, 16, 18, 16, 100, 79, 89, 16, 19, 16, 101, 79, 89, 16, 20, 16, 101, 79, 89, 16, 21, 16, 100, 79]
abbrev dktX6_init_5 : List UInt8 := dkwX6_init_5 ++ dktX6_init_6
def dkwX6_init_4 : List UInt8 := [89, 16, 14, 16, 115, 79, 89, 16, 15, 16, 111, 79, 89, 16, 16, 16, 110, 79, 89, 16, 17, 16, 32, 79]
abbrev dktX6_init_4 : List UInt8 := dkwX6_init_4 ++ dktX6_init_5
def dkwX6_init_3 : List UInt8 := [89, 16, 10, 16, 32, 79, 89, 16, 11, 16, 112, 79, 89, 16, 12, 16, 101, 79, 89, 16, 13, 16, 114, 79]
abbrev dktX6_init_3 : List UInt8 := dkwX6_init_3 ++ dktX6_init_4
def dkwX6_init_2 : List UInt8 := [89, 16, 6, 16, 101, 79, 89, 16, 7, 16, 97, 79, 89, 16, 8, 16, 115, 79, 89, 16, 9, 16, 116, 79]
abbrev dktX6_init_2 : List UInt8 := dkwX6_init_2 ++ dktX6_init_3
def dkwX6_init_1 : List UInt8 := [4, 16, 97, 79, 89, 5, 16, 110, 79, 89, 6, 16, 100, 79, 89, 7, 16, 32, 79, 89, 8, 16, 102, 79]
abbrev dktX6_init_1 : List UInt8 := dkwX6_init_1 ++ dktX6_init_2
def dkwX6_init_0 : List UInt8 := [42, 183, 0, 1, 42, 17, 3, 132, 188, 10, 181, 0, 7, 42, 16, 118, 188, 10, 89, 3, 16, 108, 79, 89]
abbrev dktX6_init_0 : List UInt8 := dkwX6_init_0 ++ dktX6_init_1
theorem dksX6_init_0 : cX6_init.data.toList.drop 0 = dktX6_init_0 := by decide +kernel
theorem dksX6_init_1 : cX6_init.data.toList.drop 24 = dktX6_init_1 := dk_seg dksX6_init_0 24 rfl rfl
theorem dksX6_init_2 : cX6_init.data.toList.drop 48 = dktX6_init_2 := dk_seg dksX6_init_1 24 rfl rfl
theorem dksX6_init_3 : cX6_init.data.toList.drop 72 = dktX6_init_3 := dk_seg dksX6_init_2 24 rfl rfl
theorem dksX6_init_4 : cX6_init.data.toList.drop 96 = dktX6_init_4 := dk_seg dksX6_init_3 24 rfl rfl
theorem dksX6_init_5 : cX6_init.data.toList.drop 120 = dktX6_init_5 := dk_seg dksX6_init_4 24 rfl rfl
theorem dksX6_init_6 : cX6_init.data.toList.drop 144 = dktX6_init_6 := dk_seg dksX6_init_5 24 rfl rfl
theorem dksX6_init_7 : cX6_init.data.toList.drop 168 = dktX6_init_7 := dk_seg dksX6_init_6 24 rfl rfl
theorem dksX6_init_8 : cX6_init.data.toList.drop 192 = dktX6_init_8 := dk_seg dksX6_init_7 24 rfl rfl
theorem dksX6_init_9 : cX6_init.data.toList.drop 216 = dktX6_init_9 := dk_seg dksX6_init_8 24 rfl rfl
theorem dksX6_init_10 : cX6_init.data.toList.drop 240 = dktX6_init_10 := dk_seg dksX6_init_9 24 rfl rfl
theorem dksX6_init_11 : cX6_init.data.toList.drop 264 = dktX6_init_11 := dk_seg dksX6_init_10 24 rfl rfl
theorem dksX6_init_12 : cX6_init.data.toList.drop 288 = dktX6_init_12 := dk_seg dksX6_init_11 24 rfl rfl
theorem dksX6_init_13 : cX6_init.data.toList.drop 312 = dktX6_init_13 := dk_seg dksX6_init_12 24 rfl rfl
theorem dksX6_init_14 : cX6_init.data.toList.drop 336 = dktX6_init_14 := dk_seg dksX6_init_13 24 rfl rfl
theorem dksX6_init_15 : cX6_init.data.toList.drop 360 = dktX6_init_15 := dk_seg dksX6_init_14 24 rfl rfl
theorem dksX6_init_16 : cX6_init.data.toList.drop 384 = dktX6_init_16 := dk_seg dksX6_init_15 24 rfl rfl
theorem dksX6_init_17 : cX6_init.data.toList.drop 408 = dktX6_init_17 := dk_seg dksX6_init_16 24 rfl rfl
theorem dksX6_init_18 : cX6_init.data.toList.drop 432 = dktX6_init_18 := dk_seg dksX6_init_17 24 rfl rfl
theorem dksX6_init_19 : cX6_init.data.toList.drop 456 = dktX6_init_19 := dk_seg dksX6_init_18 24 rfl rfl
theorem dksX6_init_20 : cX6_init.data.toList.drop 480 = dktX6_init_20 := dk_seg dksX6_init_19 24 rfl rfl
theorem dksX6_init_21 : cX6_init.data.toList.drop 504 = dktX6_init_21 := dk_seg dksX6_init_20 24 rfl rfl
theorem dksX6_init_22 : cX6_init.data.toList.drop 528 = dktX6_init_22 := dk_seg dksX6_init_21 24 rfl rfl
theorem dksX6_init_23 : cX6_init.data.toList.drop 552 = dktX6_init_23 := dk_seg dksX6_init_22 24 rfl rfl
theorem dksX6_init_24 : cX6_init.data.toList.drop 576 = dktX6_init_24 := dk_seg dksX6_init_23 24 rfl rfl
theorem dksX6_init_25 : cX6_init.data.toList.drop 600 = dktX6_init_25 := dk_seg dksX6_init_24 24 rfl rfl
theorem dksX6_init_26 : cX6_init.data.toList.drop 624 = dktX6_init_26 := dk_seg dksX6_init_25 24 rfl rfl
theorem dksX6_init_27 : cX6_init.data.toList.drop 648 = dktX6_init_27 := dk_seg dksX6_init_26 24 rfl rfl
theorem dksX6_init_28 : cX6_init.data.toList.drop 672 = dktX6_init_28 := dk_seg dksX6_init_27 24 rfl rfl
theorem dksX6_init_29 : cX6_init.data.toList.drop 696 = dktX6_init_29 := dk_seg dksX6_init_28 24 rfl rfl
theorem dksX6_init_30 : cX6_init.data.toList.drop 720 = dktX6_init_30 := dk_seg dksX6_init_29 24 rfl rfl
theorem dksX6_init_31 : cX6_init.data.toList.drop 744 = dktX6_init_31 := dk_seg dksX6_init_30 24 rfl rfl
theorem dksX6_init_32 : cX6_init.data.toList.drop 768 = dktX6_init_32 := dk_seg dksX6_init_31 24 rfl rfl
theorem dksX6_init_33 : cX6_init.data.toList.drop 792 = dktX6_init_33 := dk_seg dksX6_init_32 24 rfl rfl
theorem dksX6_init_34 : cX6_init.data.toList.drop 816 = dktX6_init_34 := dk_seg dksX6_init_33 24 rfl rfl
theorem dksX6_init_35 : cX6_init.data.toList.drop 838 = dktX6_init_35 := dk_seg dksX6_init_34 22 rfl rfl
theorem dksX6_init_36 : cX6_init.data.toList.drop 860 = dktX6_init_36 := dk_seg dksX6_init_35 22 rfl rfl
theorem dksX6_init_37 : cX6_init.data.toList.drop 884 = dktX6_init_37 := dk_seg dksX6_init_36 24 rfl rfl
theorem dksX6_init_38 : cX6_init.data.toList.drop 906 = dktX6_init_38 := dk_seg dksX6_init_37 22 rfl rfl
theorem dksX6_init_39 : cX6_init.data.toList.drop 930 = dktX6_init_39 := dk_seg dksX6_init_38 24 rfl rfl
theorem dksX6_init_40 : cX6_init.data.toList.drop 953 = dktX6_init_40 := dk_seg dksX6_init_39 23 rfl rfl
theorem dksX6_init_41 : cX6_init.data.toList.drop 975 = dktX6_init_41 := dk_seg dksX6_init_40 22 rfl rfl
theorem dX6_init_0 : decode cX6_init 0 = .ok (.aload_n 0, 1) := dk_42 (dk_at dksX6_init_0 0 rfl rfl)
theorem dX6_init_1 : decode cX6_init 1 = .ok (.invokespecial 1, 3) := dk_183 0 1 (dk_at dksX6_init_0 1 rfl rfl)
theorem dX6_init_4 : decode cX6_init 4 = .ok (.aload_n 0, 1) := dk_42 (dk_at dksX6_init_0 4 rfl rfl)
theorem dX6_init_5 : decode cX6_init 5 = .ok (.sipush 900, 3) := dk_17 3 132 (dk_at dksX6_init_0 5 rfl rfl)
theorem dX6_init_8 : decode cX6_init 8 = .ok (.newarray .int, 2) := dk_188_10 (dk_at dksX6_init_0 8 rfl rfl)
theorem dX6_init_10 : decode cX6_init 10 = .ok (.putfield 7, 3) := dk_181 0 7 (dk_at dksX6_init_0 10 rfl rfl)
theorem dX6_init_13 : decode cX6_init 13 = .ok (.aload_n 0, 1) := dk_42 (dk_at dksX6_init_0 13 rfl rfl)
theorem dX6_init_14 : decode cX6_init 14 = .ok (.bipush 118, 2) := dk_16 118 (dk_at dksX6_init_0 14 rfl rfl)
theorem dX6_init_16 : decode cX6_init 16 = .ok (.newarray .int, 2) := dk_188_10 (dk_at dksX6_init_0 16 rfl rfl)
theorem dX6_init_18 : decode cX6_init 18 = .ok (.dup, 1) := dk_89 (dk_at dksX6_init_0 18 rfl rfl)
theorem dX6_init_19 : decode cX6_init 19 = .ok (.iconst 0, 1) := dk_3 (dk_at dksX6_init_0 19 rfl rfl)
theorem dX6_init_20 : decode cX6_init 20 = .ok (.bipush 108, 2) := dk_16 108 (dk_at dksX6_init_0 20 rfl rfl)
theorem dX6_init_22 : decode cX6_init 22 = .ok (.iastore, 1) := dk_79 (dk_at dksX6_init_0 22 rfl rfl)
theorem dX6_init_23 : decode cX6_init 23 = .ok (.dup, 1) := dk_89 (dk_at dksX6_init_0 23 rfl rfl)
theorem dX6_init_24 : decode cX6_init 24 = .ok (.iconst 1, 1) := dk_4 (dk_at dksX6_init_1 0 rfl rfl)
theorem dX6_init_25 : decode cX6_init 25 = .ok (.bipush 97, 2) := dk_16 97 (dk_at dksX6_init_1 1 rfl rfl)
theorem dX6_init_27 : decode cX6_init 27 = .ok (.iastore, 1) := dk_79 (dk_at dksX6_init_1 3 rfl rfl)
theorem dX6_init_28 : decode cX6_init 28 = .ok (.dup, 1) := dk_89 (dk_at dksX6_init_1 4 rfl rfl)
theorem dX6_init_29 : decode cX6_init 29 = .ok (.iconst 2, 1) := dk_5 (dk_at dksX6_init_1 5 rfl rfl)
theorem dX6_init_30 : decode cX6_init 30 = .ok (.bipush 110, 2) := dk_16 110 (dk_at dksX6_init_1 6 rfl rfl)
theorem dX6_init_32 : decode cX6_init 32 = .ok (.iastore, 1) := dk_79 (dk_at dksX6_init_1 8 rfl rfl)
theorem dX6_init_33 : decode cX6_init 33 = .ok (.dup, 1) := dk_89 (dk_at dksX6_init_1 9 rfl rfl)
theorem dX6_init_34 : decode cX6_init 34 = .ok (.iconst 3, 1) := dk_6 (dk_at dksX6_init_1 10 rfl rfl)
theorem dX6_init_35 : decode cX6_init 35 = .ok (.bipush 100, 2) := dk_16 100 (dk_at dksX6_init_1 11 rfl rfl)
theorem dX6_init_37 : decode cX6_init 37 = .ok (.iastore, 1) := dk_79 (dk_at dksX6_init_1 13 rfl rfl)
theorem dX6_init_38 : decode cX6_init 38 = .ok (.dup, 1) := dk_89 (dk_at dksX6_init_1 14 rfl rfl)
theorem dX6_init_39 : decode cX6_init 39 = .ok (.iconst 4, 1) := dk_7 (dk_at dksX6_init_1 15 rfl rfl)
theorem dX6_init_40 : decode cX6_init 40 = .ok (.bipush 32, 2) := dk_16 32 (dk_at dksX6_init_1 16 rfl rfl)
theorem dX6_init_42 : decode cX6_init 42 = .ok (.iastore, 1) := dk_79 (dk_at dksX6_init_1 18 rfl rfl)
theorem dX6_init_43 : decode cX6_init 43 = .ok (.dup, 1) := dk_89 (dk_at dksX6_init_1 19 rfl rfl)
theorem dX6_init_44 : decode cX6_init 44 = .ok (.iconst 5, 1) := dk_8 (dk_at dksX6_init_1 20 rfl rfl)
theorem dX6_init_45 : decode cX6_init 45 = .ok (.bipush 102, 2) := dk_16 102 (dk_at dksX6_init_1 21 rfl rfl)
theorem dX6_init_47 : decode cX6_init 47 = .ok (.iastore, 1) := dk_79 (dk_at dksX6_init_1 23 rfl rfl)
theorem dX6_init_48 : decode cX6_init 48 = .ok (.dup, 1) := dk_89 (dk_at dksX6_init_2 0 rfl rfl)
theorem dX6_init_49 : decode cX6_init 49 = .ok (.bipush 6, 2) := dk_16 6 (dk_at dksX6_init_2 1 rfl rfl)
theorem dX6_init_51 : decode cX6_init 51 = .ok (.bipush 101, 2) := dk_16 101 (dk_at dksX6_init_2 3 rfl rfl)
theorem dX6_init_53 : decode cX6_init 53 = .ok (.iastore, 1) := dk_79 (dk_at dksX6_init_2 5 rfl rfl)
theorem dX6_init_54 : decode cX6_init 54 = .ok (.dup, 1) := dk_89 (dk_at dksX6_init_2 6 rfl rfl)
theorem dX6_init_55 : decode cX6_init 55 = .ok (.bipush 7, 2) := dk_16 7 (dk_at dksX6_init_2 7 rfl rfl)
theorem dX6_init_57 : decode cX6_init 57 = .ok (.bipush 97, 2) := dk_16 97 (dk_at dksX6_init_2 9 rfl rfl)
theorem dX6_init_59 : decode cX6_init 59 = .ok (.iastore, 1) := dk_79 (dk_at dksX6_init_2 11 rfl rfl)
theorem dX6_init_60 : decode cX6_init 60 = .ok (.dup, 1) := dk_89 (dk_at dksX6_init_2 12 rfl rfl)
theorem dX6_init_61 : decode cX6_init 61 = .ok (.bipush 8, 2) := dk_16 8 (dk_at dksX6_init_2 13 rfl rfl)
theorem dX6_init_63 : decode cX6_init 63 = .ok (.bipush 115, 2) := dk_16 115 (dk_at dksX6_init_2 15 rfl rfl)
theorem dX6_init_65 : decode cX6_init 65 = .ok (.iastore, 1) := dk_79 (dk_at dksX6_init_2 17 rfl rfl)
theorem dX6_init_66 : decode cX6_init 66 = .ok (.dup, 1) := dk_89 (dk_at dksX6_init_2 18 rfl rfl)
theorem dX6_init_67 : decode cX6_init 67 = .ok (.bipush 9, 2) := dk_16 9 (dk_at dksX6_init_2 19 rfl rfl)
theorem dX6_init_69 : decode cX6_init 69 = .ok (.bipush 116, 2) := dk_16 116 (dk_at dksX6_init_2 21 rfl rfl)
theorem dX6_init_71 : decode cX6_init 71 = .ok (.iastore, 1) := dk_79 (dk_at dksX6_init_2 23 rfl rfl)
theorem dX6_init_72 : decode cX6_init 72 = .ok (.dup, 1) := dk_89 (dk_at dksX6_init_3 0 rfl rfl)
theorem dX6_init_73 : decode cX6_init 73 = .ok (.bipush 10, 2) := dk_16 10 (dk_at dksX6_init_3 1 rfl rfl)
theorem dX6_init_75 : decode cX6_init 75 = .ok (.bipush 32, 2) := dk_16 32 (dk_at dksX6_init_3 3 rfl rfl)
theorem dX6_init_77 : decode cX6_init 77 = .ok (.iastore, 1) := dk_79 (dk_at dksX6_init_3 5 rfl rfl)
theorem dX6_init_78 : decode cX6_init 78 = .ok (.dup, 1) := dk_89 (dk_at dksX6_init_3 6 rfl rfl)
theorem dX6_init_79 : decode cX6_init 79 = .ok (.bipush 11, 2) := dk_16 11 (dk_at dksX6_init_3 7 rfl rfl)
theorem dX6_init_81 : decode cX6_init 81 = .ok (.bipush 112, 2) := dk_16 112 (dk_at dksX6_init_3 9 rfl rfl)
theorem dX6_init_83 : decode cX6_init 83 = .ok (.iastore, 1) := dk_79 (dk_at dksX6_init_3 11 rfl rfl)
theorem dX6_init_84 : decode cX6_init 84 = .ok (.dup, 1) := dk_89 (dk_at dksX6_init_3 12 rfl rfl)
theorem dX6_init_85 : decode cX6_init 85 = .ok (.bipush 12, 2) := dk_16 12 (dk_at dksX6_init_3 13 rfl rfl)
theorem dX6_init_87 : decode cX6_init 87 = .ok (.bipush 101, 2) := dk_16 101 (dk_at dksX6_init_3 15 rfl rfl)
theorem dX6_init_89 : decode cX6_init 89 = .ok (.iastore, 1) := dk_79 (dk_at dksX6_init_3 17 rfl rfl)
theorem dX6_init_90 : decode cX6_init 90 = .ok (.dup, 1) := dk_89 (dk_at dksX6_init_3 18 rfl rfl)
theorem dX6_init_91 : decode cX6_init 91 = .ok (.bipush 13, 2) := dk_16 13 (dk_at dksX6_init_3 19 rfl rfl)
theorem dX6_init_93 : decode cX6_init 93 = .ok (.bipush 114, 2) := dk_16 114 (dk_at dksX6_init_3 21 rfl rfl)
theorem dX6_init_95 : decode cX6_init 95 = .ok (.iastore, 1) := dk_79 (dk_at dksX6_init_3 23 rfl rfl)
theorem dX6_init_96 : decode cX6_init 96 = .ok (.dup, 1) := dk_89 (dk_at dksX6_init_4 0 rfl rfl)
theorem dX6_init_97 : decode cX6_init 97 = .ok (.bipush 14, 2) := dk_16 14 (dk_at dksX6_init_4 1 rfl rfl)
theorem dX6_init_99 : decode cX6_init 99 = .ok (.bipush 115, 2) := dk_16 115 (dk_at dksX6_init_4 3 rfl rfl)
theorem dX6_init_101 : decode cX6_init 101 = .ok (.iastore, 1) := dk_79 (dk_at dksX6_init_4 5 rfl rfl)
theorem dX6_init_102 : decode cX6_init 102 = .ok (.dup, 1) := dk_89 (dk_at dksX6_init_4 6 rfl rfl)
theorem dX6_init_103 : decode cX6_init 103 = .ok (.bipush 15, 2) := dk_16 15 (dk_at dksX6_init_4 7 rfl rfl)
theorem dX6_init_105 : decode cX6_init 105 = .ok (.bipush 111, 2) := dk_16 111 (dk_at dksX6_init_4 9 rfl rfl)
theorem dX6_init_107 : decode cX6_init 107 = .ok (.iastore, 1) := dk_79 (dk_at dksX6_init_4 11 rfl rfl)
theorem dX6_init_108 : decode cX6_init 108 = .ok (.dup, 1) := dk_89 (dk_at dksX6_init_4 12 rfl rfl)
theorem dX6_init_109 : decode cX6_init 109 = .ok (.bipush 16, 2) := dk_16 16 (dk_at dksX6_init_4 13 rfl rfl)
theorem dX6_init_111 : decode cX6_init 111 = .ok (.bipush 110, 2) := dk_16 110 (dk_at dksX6_init_4 15 rfl rfl)
theorem dX6_init_113 : decode cX6_init 113 = .ok (.iastore, 1) := dk_79 (dk_at dksX6_init_4 17 rfl rfl)
theorem dX6_init_114 : decode cX6_init 114 = .ok (.dup, 1) := dk_89 (dk_at dksX6_init_4 18 rfl rfl)
theorem dX6_init_115 : decode cX6_init 115 = .ok (.bipush 17, 2) := dk_16 17 (dk_at dksX6_init_4 19 rfl rfl)
theorem dX6_init_117 : decode cX6_init 117 = .ok (.bipush 32, 2) := dk_16 32 (dk_at dksX6_init_4 21 rfl rfl)
theorem dX6_init_119 : decode cX6_init 119 = .ok (.iastore, 1) := dk_79 (dk_at dksX6_init_4 23 rfl rfl)
theorem dX6_init_120 : decode cX6_init 120 = .ok (.dup, 1) := dk_89 (dk_at dksX6_init_5 0 rfl rfl)
theorem dX6_init_121 : decode cX6_init 121 = .ok (.bipush 18, 2) := dk_16 18 (dk_at dksX6_init_5 1 rfl rfl)
theorem dX6_init_123 : decode cX6_init 123 = .ok (.bipush 100, 2) := dk_16 100 (dk_at dksX6_init_5 3 rfl rfl)
theorem dX6_init_125 : decode cX6_init 125 = .ok (.iastore, 1) := dk_79 (dk_at dksX6_init_5 5 rfl rfl)
theorem dX6_init_126 : decode cX6_init 126 = .ok (.dup, 1) := dk_89 (dk_at dksX6_init_5 6 rfl rfl)
theorem dX6_init_127 : decode cX6_init 127 = .ok (.bipush 19, 2) := dk_16 19 (dk_at dksX6_init_5 7 rfl rfl)
theorem dX6_init_129 : decode cX6_init 129 = .ok (.bipush 101, 2) := dk_16 101 (dk_at dksX6_init_5 9 rfl rfl)
theorem dX6_init_131 : decode cX6_init 131 = .ok (.iastore, 1) := dk_79 (dk_at dksX6_init_5 11 rfl rfl)
theorem dX6_init_132 : decode cX6_init 132 = .ok (.dup, 1) := dk_89 (dk_at dksX6_init_5 12 rfl rfl)
theorem dX6_init_133 : decode cX6_init 133 = .ok (.bipush 20, 2) := dk_16 20 (dk_at dksX6_init_5 13 rfl rfl)
theorem dX6_init_135 : decode cX6_init 135 = .ok (.bipush 101, 2) := dk_16 101 (dk_at dksX6_init_5 15 rfl rfl)
theorem dX6_init_137 : decode cX6_init 137 = .ok (.iastore, 1) := dk_79 (dk_at dksX6_init_5 17 rfl rfl)
theorem dX6_init_138 : decode cX6_init 138 = .ok (.dup, 1) := dk_89 (dk_at dksX6_init_5 18 rfl rfl)
theorem dX6_init_139 : decode cX6_init 139 = .ok (.bipush 21, 2) := dk_16 21 (dk_at dksX6_init_5 19 rfl rfl)
theorem dX6_init_141 : decode cX6_init 141 = .ok (.bipush 100, 2) := dk_16 100 (dk_at dksX6_init_5 21 rfl rfl)
theorem dX6_init_143 : decode cX6_init 143 = .ok (.iastore, 1) := dk_79 (dk_at dksX6_init_5 23 rfl rfl)
theorem dX6_init_144 : decode cX6_init 144 = .ok (.dup, 1) := dk_89 (dk_at dksX6_init_6 0 rfl rfl)
theorem dX6_init_145 : decode cX6_init 145 = .ok (.bipush 22, 2) := dk_16 22 (dk_at dksX6_init_6 1 rfl rfl)
theorem dX6_init_147 : decode cX6_init 147 = .ok (.bipush 32, 2) := dk_16 32 (dk_at dksX6_init_6 3 rfl rfl)
theorem dX6_init_149 : decode cX6_init 149 = .ok (.iastore, 1) := dk_79 (dk_at dksX6_init_6 5 rfl rfl)
theorem dX6_init_150 : decode cX6_init 150 = .ok (.dup, 1) := dk_89 (dk_at dksX6_init_6 6 rfl rfl)
theorem dX6_init_151 : decode cX6_init 151 = .ok (.bipush 23, 2) := dk_16 23 (dk_at dksX6_init_6 7 rfl rfl)
theorem dX6_init_153 : decode cX6_init 153 = .ok (.bipush 110, 2) := dk_16 110 (dk_at dksX6_init_6 9 rfl rfl)
theorem dX6_init_155 : decode cX6_init 155 = .ok (.iastore, 1) := dk_79 (dk_at dksX6_init_6 11 rfl rfl)
theorem dX6_init_156 : decode cX6_init 156 = .ok (.dup, 1) := dk_89 (dk_at dksX6_init_6 12 rfl rfl)
theorem dX6_init_157 : decode cX6_init 157 = .ok (.bipush 24, 2) := dk_16 24 (dk_at dksX6_init_6 13 rfl rfl)
theorem dX6_init_159 : decode cX6_init 159 = .ok (.bipush 111, 2) := dk_16 111 (dk_at dksX6_init_6 15 rfl rfl)
theorem dX6_init_161 : decode cX6_init 161 = .ok (.iastore, 1) := dk_79 (dk_at dksX6_init_6 17 rfl rfl)
theorem dX6_init_162 : decode cX6_init 162 = .ok (.dup, 1) := dk_89 (dk_at dksX6_init_6 18 rfl rfl)
theorem dX6_init_163 : decode cX6_init 163 = .ok (.bipush 25, 2) := dk_16 25 (dk_at dksX6_init_6 19 rfl rfl)
theorem dX6_init_165 : decode cX6_init 165 = .ok (.bipush 116, 2) := dk_16 116 (dk_at dksX6_init_6 21 rfl rfl)
theorem dX6_init_167 : decode cX6_init 167 = .ok (.iastore, 1) := dk_79 (dk_at dksX6_init_6 23 rfl rfl)
theorem dX6_init_168 : decode cX6_init 168 = .ok (.dup, 1) := dk_89 (dk_at dksX6_init_7 0 rfl rfl)
theorem dX6_init_169 : decode cX6_init 169 = .ok (.bipush 26, 2) := dk_16 26 (dk_at dksX6_init_7 1 rfl rfl)
theorem dX6_init_171 : decode cX6_init 171 = .ok (.bipush 101, 2) := dk_16 101 (dk_at dksX6_init_7 3 rfl rfl)
theorem dX6_init_173 : decode cX6_init 173 = .ok (.iastore, 1) := dk_79 (dk_at dksX6_init_7 5 rfl rfl)
theorem dX6_init_174 : decode cX6_init 174 = .ok (.dup, 1) := dk_89 (dk_at dksX6_init_7 6 rfl rfl)
theorem dX6_init_175 : decode cX6_init 175 = .ok (.bipush 27, 2) := dk_16 27 (dk_at dksX6_init_7 7 rfl rfl)
theorem dX6_init_177 : decode cX6_init 177 = .ok (.bipush 32, 2) := dk_16 32 (dk_at dksX6_init_7 9 rfl rfl)
theorem dX6_init_179 : decode cX6_init 179 = .ok (.iastore, 1) := dk_79 (dk_at dksX6_init_7 11 rfl rfl)
theorem dX6_init_180 : decode cX6_init 180 = .ok (.dup, 1) := dk_89 (dk_at dksX6_init_7 12 rfl rfl)
theorem dX6_init_181 : decode cX6_init 181 = .ok (.bipush 28, 2) := dk_16 28 (dk_at dksX6_init_7 13 rfl rfl)
theorem dX6_init_183 : decode cX6_init 183 = .ok (.bipush 115, 2) := dk_16 115 (dk_at dksX6_init_7 15 rfl rfl)
theorem dX6_init_185 : decode cX6_init 185 = .ok (.iastore, 1) := dk_79 (dk_at dksX6_init_7 17 rfl rfl)
theorem dX6_init_186 : decode cX6_init 186 = .ok (.dup, 1) := dk_89 (dk_at dksX6_init_7 18 rfl rfl)
theorem dX6_init_187 : decode cX6_init 187 = .ok (.bipush 29, 2) := dk_16 29 (dk_at dksX6_init_7 19 rfl rfl)
theorem dX6_init_189 : decode cX6_init 189 = .ok (.bipush 117, 2) := dk_16 117 (dk_at dksX6_init_7 21 rfl rfl)
theorem dX6_init_191 : decode cX6_init 191 = .ok (.iastore, 1) := dk_79 (dk_at dksX6_init_7 23 rfl rfl)
theorem dX6_init_192 : decode cX6_init 192 = .ok (.dup, 1) := dk_89 (dk_at dksX6_init_8 0 rfl rfl)
theorem dX6_init_193 : decode cX6_init 193 = .ok (.bipush 30, 2) := dk_16 30 (dk_at dksX6_init_8 1 rfl rfl)
theorem dX6_init_195 : decode cX6_init 195 = .ok (.bipush 110, 2) := dk_16 110 (dk_at dksX6_init_8 3 rfl rfl)
theorem dX6_init_197 : decode cX6_init 197 = .ok (.iastore, 1) := dk_79 (dk_at dksX6_init_8 5 rfl rfl)
theorem dX6_init_198 : decode cX6_init 198 = .ok (.dup, 1) := dk_89 (dk_at dksX6_init_8 6 rfl rfl)
theorem dX6_init_199 : decode cX6_init 199 = .ok (.bipush 31, 2) := dk_16 31 (dk_at dksX6_init_8 7 rfl rfl)
theorem dX6_init_201 : decode cX6_init 201 = .ok (.bipush 32, 2) := dk_16 32 (dk_at dksX6_init_8 9 rfl rfl)
theorem dX6_init_203 : decode cX6_init 203 = .ok (.iastore, 1) := dk_79 (dk_at dksX6_init_8 11 rfl rfl)
theorem dX6_init_204 : decode cX6_init 204 = .ok (.dup, 1) := dk_89 (dk_at dksX6_init_8 12 rfl rfl)
theorem dX6_init_205 : decode cX6_init 205 = .ok (.bipush 32, 2) := dk_16 32 (dk_at dksX6_init_8 13 rfl rfl)
theorem dX6_init_207 : decode cX6_init 207 = .ok (.bipush 119, 2) := dk_16 119 (dk_at dksX6_init_8 15 rfl rfl)
theorem dX6_init_209 : decode cX6_init 209 = .ok (.iastore, 1) := dk_79 (dk_at dksX6_init_8 17 rfl rfl)
theorem dX6_init_210 : decode cX6_init 210 = .ok (.dup, 1) := dk_89 (dk_at dksX6_init_8 18 rfl rfl)
theorem dX6_init_211 : decode cX6_init 211 = .ok (.bipush 33, 2) := dk_16 33 (dk_at dksX6_init_8 19 rfl rfl)
theorem dX6_init_213 : decode cX6_init 213 = .ok (.bipush 101, 2) := dk_16 101 (dk_at dksX6_init_8 21 rfl rfl)
theorem dX6_init_215 : decode cX6_init 215 = .ok (.iastore, 1) := dk_79 (dk_at dksX6_init_8 23 rfl rfl)
theorem dX6_init_216 : decode cX6_init 216 = .ok (.dup, 1) := dk_89 (dk_at dksX6_init_9 0 rfl rfl)
theorem dX6_init_217 : decode cX6_init 217 = .ok (.bipush 34, 2) := dk_16 34 (dk_at dksX6_init_9 1 rfl rfl)
theorem dX6_init_219 : decode cX6_init 219 = .ok (.bipush 101, 2) := dk_16 101 (dk_at dksX6_init_9 3 rfl rfl)
theorem dX6_init_221 : decode cX6_init 221 = .ok (.iastore, 1) := dk_79 (dk_at dksX6_init_9 5 rfl rfl)
theorem dX6_init_222 : decode cX6_init 222 = .ok (.dup, 1) := dk_89 (dk_at dksX6_init_9 6 rfl rfl)
theorem dX6_init_223 : decode cX6_init 223 = .ok (.bipush 35, 2) := dk_16 35 (dk_at dksX6_init_9 7 rfl rfl)
theorem dX6_init_225 : decode cX6_init 225 = .ok (.bipush 107, 2) := dk_16 107 (dk_at dksX6_init_9 9 rfl rfl)
theorem dX6_init_227 : decode cX6_init 227 = .ok (.iastore, 1) := dk_79 (dk_at dksX6_init_9 11 rfl rfl)
theorem dX6_init_228 : decode cX6_init 228 = .ok (.dup, 1) := dk_89 (dk_at dksX6_init_9 12 rfl rfl)
theorem dX6_init_229 : decode cX6_init 229 = .ok (.bipush 36, 2) := dk_16 36 (dk_at dksX6_init_9 13 rfl rfl)
theorem dX6_init_231 : decode cX6_init 231 = .ok (.bipush 32, 2) := dk_16 32 (dk_at dksX6_init_9 15 rfl rfl)
theorem dX6_init_233 : decode cX6_init 233 = .ok (.iastore, 1) := dk_79 (dk_at dksX6_init_9 17 rfl rfl)
theorem dX6_init_234 : decode cX6_init 234 = .ok (.dup, 1) := dk_89 (dk_at dksX6_init_9 18 rfl rfl)
theorem dX6_init_235 : decode cX6_init 235 = .ok (.bipush 37, 2) := dk_16 37 (dk_at dksX6_init_9 19 rfl rfl)
theorem dX6_init_237 : decode cX6_init 237 = .ok (.bipush 109, 2) := dk_16 109 (dk_at dksX6_init_9 21 rfl rfl)
theorem dX6_init_239 : decode cX6_init 239 = .ok (.iastore, 1) := dk_79 (dk_at dksX6_init_9 23 rfl rfl)
theorem dX6_init_240 : decode cX6_init 240 = .ok (.dup, 1) := dk_89 (dk_at dksX6_init_10 0 rfl rfl)
theorem dX6_init_241 : decode cX6_init 241 = .ok (.bipush 38, 2) := dk_16 38 (dk_at dksX6_init_10 1 rfl rfl)
theorem dX6_init_243 : decode cX6_init 243 = .ok (.bipush 111, 2) := dk_16 111 (dk_at dksX6_init_10 3 rfl rfl)
theorem dX6_init_245 : decode cX6_init 245 = .ok (.iastore, 1) := dk_79 (dk_at dksX6_init_10 5 rfl rfl)
theorem dX6_init_246 : decode cX6_init 246 = .ok (.dup, 1) := dk_89 (dk_at dksX6_init_10 6 rfl rfl)
theorem dX6_init_247 : decode cX6_init 247 = .ok (.bipush 39, 2) := dk_16 39 (dk_at dksX6_init_10 7 rfl rfl)
theorem dX6_init_249 : decode cX6_init 249 = .ok (.bipush 111, 2) := dk_16 111 (dk_at dksX6_init_10 9 rfl rfl)
theorem dX6_init_251 : decode cX6_init 251 = .ok (.iastore, 1) := dk_79 (dk_at dksX6_init_10 11 rfl rfl)
theorem dX6_init_252 : decode cX6_init 252 = .ok (.dup, 1) := dk_89 (dk_at dksX6_init_10 12 rfl rfl)
theorem dX6_init_253 : decode cX6_init 253 = .ok (.bipush 40, 2) := dk_16 40 (dk_at dksX6_init_10 13 rfl rfl)
theorem dX6_init_255 : decode cX6_init 255 = .ok (.bipush 110, 2) := dk_16 110 (dk_at dksX6_init_10 15 rfl rfl)
theorem dX6_init_257 : decode cX6_init 257 = .ok (.iastore, 1) := dk_79 (dk_at dksX6_init_10 17 rfl rfl)
theorem dX6_init_258 : decode cX6_init 258 = .ok (.dup, 1) := dk_89 (dk_at dksX6_init_10 18 rfl rfl)
theorem dX6_init_259 : decode cX6_init 259 = .ok (.bipush 41, 2) := dk_16 41 (dk_at dksX6_init_10 19 rfl rfl)
theorem dX6_init_261 : decode cX6_init 261 = .ok (.bipush 32, 2) := dk_16 32 (dk_at dksX6_init_10 21 rfl rfl)
theorem dX6_init_263 : decode cX6_init 263 = .ok (.iastore, 1) := dk_79 (dk_at dksX6_init_10 23 rfl rfl)
theorem dX6_init_264 : decode cX6_init 264 = .ok (.dup, 1) := dk_89 (dk_at dksX6_init_11 0 rfl rfl)
theorem dX6_init_265 : decode cX6_init 265 = .ok (.bipush 42, 2) := dk_16 42 (dk_at dksX6_init_11 1 rfl rfl)
theorem dX6_init_267 : decode cX6_init 267 = .ok (.bipush 102, 2) := dk_16 102 (dk_at dksX6_init_11 3 rfl rfl)
theorem dX6_init_269 : decode cX6_init 269 = .ok (.iastore, 1) := dk_79 (dk_at dksX6_init_11 5 rfl rfl)
theorem dX6_init_270 : decode cX6_init 270 = .ok (.dup, 1) := dk_89 (dk_at dksX6_init_11 6 rfl rfl)
theorem dX6_init_271 : decode cX6_init 271 = .ok (.bipush 43, 2) := dk_16 43 (dk_at dksX6_init_11 7 rfl rfl)
theorem dX6_init_273 : decode cX6_init 273 = .ok (.bipush 114, 2) := dk_16 114 (dk_at dksX6_init_11 9 rfl rfl)
theorem dX6_init_275 : decode cX6_init 275 = .ok (.iastore, 1) := dk_79 (dk_at dksX6_init_11 11 rfl rfl)
theorem dX6_init_276 : decode cX6_init 276 = .ok (.dup, 1) := dk_89 (dk_at dksX6_init_11 12 rfl rfl)
theorem dX6_init_277 : decode cX6_init 277 = .ok (.bipush 44, 2) := dk_16 44 (dk_at dksX6_init_11 13 rfl rfl)
theorem dX6_init_279 : decode cX6_init 279 = .ok (.bipush 111, 2) := dk_16 111 (dk_at dksX6_init_11 15 rfl rfl)
theorem dX6_init_281 : decode cX6_init 281 = .ok (.iastore, 1) := dk_79 (dk_at dksX6_init_11 17 rfl rfl)
theorem dX6_init_282 : decode cX6_init 282 = .ok (.dup, 1) := dk_89 (dk_at dksX6_init_11 18 rfl rfl)
theorem dX6_init_283 : decode cX6_init 283 = .ok (.bipush 45, 2) := dk_16 45 (dk_at dksX6_init_11 19 rfl rfl)
theorem dX6_init_285 : decode cX6_init 285 = .ok (.bipush 109, 2) := dk_16 109 (dk_at dksX6_init_11 21 rfl rfl)
theorem dX6_init_287 : decode cX6_init 287 = .ok (.iastore, 1) := dk_79 (dk_at dksX6_init_11 23 rfl rfl)
theorem dX6_init_288 : decode cX6_init 288 = .ok (.dup, 1) := dk_89 (dk_at dksX6_init_12 0 rfl rfl)
theorem dX6_init_289 : decode cX6_init 289 = .ok (.bipush 46, 2) := dk_16 46 (dk_at dksX6_init_12 1 rfl rfl)
theorem dX6_init_291 : decode cX6_init 291 = .ok (.bipush 32, 2) := dk_16 32 (dk_at dksX6_init_12 3 rfl rfl)
theorem dX6_init_293 : decode cX6_init 293 = .ok (.iastore, 1) := dk_79 (dk_at dksX6_init_12 5 rfl rfl)
theorem dX6_init_294 : decode cX6_init 294 = .ok (.dup, 1) := dk_89 (dk_at dksX6_init_12 6 rfl rfl)
theorem dX6_init_295 : decode cX6_init 295 = .ok (.bipush 47, 2) := dk_16 47 (dk_at dksX6_init_12 7 rfl rfl)
theorem dX6_init_297 : decode cX6_init 297 = .ok (.bipush 100, 2) := dk_16 100 (dk_at dksX6_init_12 9 rfl rfl)
theorem dX6_init_299 : decode cX6_init 299 = .ok (.iastore, 1) := dk_79 (dk_at dksX6_init_12 11 rfl rfl)
theorem dX6_init_300 : decode cX6_init 300 = .ok (.dup, 1) := dk_89 (dk_at dksX6_init_12 12 rfl rfl)
theorem dX6_init_301 : decode cX6_init 301 = .ok (.bipush 48, 2) := dk_16 48 (dk_at dksX6_init_12 13 rfl rfl)
theorem dX6_init_303 : decode cX6_init 303 = .ok (.bipush 105, 2) := dk_16 105 (dk_at dksX6_init_12 15 rfl rfl)
theorem dX6_init_305 : decode cX6_init 305 = .ok (.iastore, 1) := dk_79 (dk_at dksX6_init_12 17 rfl rfl)
theorem dX6_init_306 : decode cX6_init 306 = .ok (.dup, 1) := dk_89 (dk_at dksX6_init_12 18 rfl rfl)
theorem dX6_init_307 : decode cX6_init 307 = .ok (.bipush 49, 2) := dk_16 49 (dk_at dksX6_init_12 19 rfl rfl)
theorem dX6_init_309 : decode cX6_init 309 = .ok (.bipush 101, 2) := dk_16 101 (dk_at dksX6_init_12 21 rfl rfl)
theorem dX6_init_311 : decode cX6_init 311 = .ok (.iastore, 1) := dk_79 (dk_at dksX6_init_12 23 rfl rfl)
theorem dX6_init_312 : decode cX6_init 312 = .ok (.dup, 1) := dk_89 (dk_at dksX6_init_13 0 rfl rfl)
theorem dX6_init_313 : decode cX6_init 313 = .ok (.bipush 50, 2) := dk_16 50 (dk_at dksX6_init_13 1 rfl rfl)
theorem dX6_init_315 : decode cX6_init 315 = .ok (.bipush 100, 2) := dk_16 100 (dk_at dksX6_init_13 3 rfl rfl)
theorem dX6_init_317 : decode cX6_init 317 = .ok (.iastore, 1) := dk_79 (dk_at dksX6_init_13 5 rfl rfl)
theorem dX6_init_318 : decode cX6_init 318 = .ok (.dup, 1) := dk_89 (dk_at dksX6_init_13 6 rfl rfl)
theorem dX6_init_319 : decode cX6_init 319 = .ok (.bipush 51, 2) := dk_16 51 (dk_at dksX6_init_13 7 rfl rfl)
theorem dX6_init_321 : decode cX6_init 321 = .ok (.bipush 32, 2) := dk_16 32 (dk_at dksX6_init_13 9 rfl rfl)
theorem dX6_init_323 : decode cX6_init 323 = .ok (.iastore, 1) := dk_79 (dk_at dksX6_init_13 11 rfl rfl)
theorem dX6_init_324 : decode cX6_init 324 = .ok (.dup, 1) := dk_89 (dk_at dksX6_init_13 12 rfl rfl)
theorem dX6_init_325 : decode cX6_init 325 = .ok (.bipush 52, 2) := dk_16 52 (dk_at dksX6_init_13 13 rfl rfl)
theorem dX6_init_327 : decode cX6_init 327 = .ok (.bipush 121, 2) := dk_16 121 (dk_at dksX6_init_13 15 rfl rfl)
theorem dX6_init_329 : decode cX6_init 329 = .ok (.iastore, 1) := dk_79 (dk_at dksX6_init_13 17 rfl rfl)
theorem dX6_init_330 : decode cX6_init 330 = .ok (.dup, 1) := dk_89 (dk_at dksX6_init_13 18 rfl rfl)
theorem dX6_init_331 : decode cX6_init 331 = .ok (.bipush 53, 2) := dk_16 53 (dk_at dksX6_init_13 19 rfl rfl)
theorem dX6_init_333 : decode cX6_init 333 = .ok (.bipush 101, 2) := dk_16 101 (dk_at dksX6_init_13 21 rfl rfl)
theorem dX6_init_335 : decode cX6_init 335 = .ok (.iastore, 1) := dk_79 (dk_at dksX6_init_13 23 rfl rfl)
theorem dX6_init_336 : decode cX6_init 336 = .ok (.dup, 1) := dk_89 (dk_at dksX6_init_14 0 rfl rfl)
theorem dX6_init_337 : decode cX6_init 337 = .ok (.bipush 54, 2) := dk_16 54 (dk_at dksX6_init_14 1 rfl rfl)
theorem dX6_init_339 : decode cX6_init 339 = .ok (.bipush 97, 2) := dk_16 97 (dk_at dksX6_init_14 3 rfl rfl)
theorem dX6_init_341 : decode cX6_init 341 = .ok (.iastore, 1) := dk_79 (dk_at dksX6_init_14 5 rfl rfl)
theorem dX6_init_342 : decode cX6_init 342 = .ok (.dup, 1) := dk_89 (dk_at dksX6_init_14 6 rfl rfl)
theorem dX6_init_343 : decode cX6_init 343 = .ok (.bipush 55, 2) := dk_16 55 (dk_at dksX6_init_14 7 rfl rfl)
theorem dX6_init_345 : decode cX6_init 345 = .ok (.bipush 114, 2) := dk_16 114 (dk_at dksX6_init_14 9 rfl rfl)
theorem dX6_init_347 : decode cX6_init 347 = .ok (.iastore, 1) := dk_79 (dk_at dksX6_init_14 11 rfl rfl)
theorem dX6_init_348 : decode cX6_init 348 = .ok (.dup, 1) := dk_89 (dk_at dksX6_init_14 12 rfl rfl)
theorem dX6_init_349 : decode cX6_init 349 = .ok (.bipush 56, 2) := dk_16 56 (dk_at dksX6_init_14 13 rfl rfl)
theorem dX6_init_351 : decode cX6_init 351 = .ok (.bipush 115, 2) := dk_16 115 (dk_at dksX6_init_14 15 rfl rfl)
theorem dX6_init_353 : decode cX6_init 353 = .ok (.iastore, 1) := dk_79 (dk_at dksX6_init_14 17 rfl rfl)
theorem dX6_init_354 : decode cX6_init 354 = .ok (.dup, 1) := dk_89 (dk_at dksX6_init_14 18 rfl rfl)
theorem dX6_init_355 : decode cX6_init 355 = .ok (.bipush 57, 2) := dk_16 57 (dk_at dksX6_init_14 19 rfl rfl)
theorem dX6_init_357 : decode cX6_init 357 = .ok (.bipush 32, 2) := dk_16 32 (dk_at dksX6_init_14 21 rfl rfl)
theorem dX6_init_359 : decode cX6_init 359 = .ok (.iastore, 1) := dk_79 (dk_at dksX6_init_14 23 rfl rfl)
theorem dX6_init_360 : decode cX6_init 360 = .ok (.dup, 1) := dk_89 (dk_at dksX6_init_15 0 rfl rfl)
theorem dX6_init_361 : decode cX6_init 361 = .ok (.bipush 58, 2) := dk_16 58 (dk_at dksX6_init_15 1 rfl rfl)
theorem dX6_init_363 : decode cX6_init 363 = .ok (.bipush 100, 2) := dk_16 100 (dk_at dksX6_init_15 3 rfl rfl)
theorem dX6_init_365 : decode cX6_init 365 = .ok (.iastore, 1) := dk_79 (dk_at dksX6_init_15 5 rfl rfl)
theorem dX6_init_366 : decode cX6_init 366 = .ok (.dup, 1) := dk_89 (dk_at dksX6_init_15 6 rfl rfl)
theorem dX6_init_367 : decode cX6_init 367 = .ok (.bipush 59, 2) := dk_16 59 (dk_at dksX6_init_15 7 rfl rfl)
theorem dX6_init_369 : decode cX6_init 369 = .ok (.bipush 97, 2) := dk_16 97 (dk_at dksX6_init_15 9 rfl rfl)
theorem dX6_init_371 : decode cX6_init 371 = .ok (.iastore, 1) := dk_79 (dk_at dksX6_init_15 11 rfl rfl)
theorem dX6_init_372 : decode cX6_init 372 = .ok (.dup, 1) := dk_89 (dk_at dksX6_init_15 12 rfl rfl)
theorem dX6_init_373 : decode cX6_init 373 = .ok (.bipush 60, 2) := dk_16 60 (dk_at dksX6_init_15 13 rfl rfl)
theorem dX6_init_375 : decode cX6_init 375 = .ok (.bipush 121, 2) := dk_16 121 (dk_at dksX6_init_15 15 rfl rfl)
theorem dX6_init_377 : decode cX6_init 377 = .ok (.iastore, 1) := dk_79 (dk_at dksX6_init_15 17 rfl rfl)
theorem dX6_init_378 : decode cX6_init 378 = .ok (.dup, 1) := dk_89 (dk_at dksX6_init_15 18 rfl rfl)
theorem dX6_init_379 : decode cX6_init 379 = .ok (.bipush 61, 2) := dk_16 61 (dk_at dksX6_init_15 19 rfl rfl)
theorem dX6_init_381 : decode cX6_init 381 = .ok (.bipush 115, 2) := dk_16 115 (dk_at dksX6_init_15 21 rfl rfl)
theorem dX6_init_383 : decode cX6_init 383 = .ok (.iastore, 1) := dk_79 (dk_at dksX6_init_15 23 rfl rfl)
theorem dX6_init_384 : decode cX6_init 384 = .ok (.dup, 1) := dk_89 (dk_at dksX6_init_16 0 rfl rfl)
theorem dX6_init_385 : decode cX6_init 385 = .ok (.bipush 62, 2) := dk_16 62 (dk_at dksX6_init_16 1 rfl rfl)
theorem dX6_init_387 : decode cX6_init 387 = .ok (.bipush 32, 2) := dk_16 32 (dk_at dksX6_init_16 3 rfl rfl)
theorem dX6_init_389 : decode cX6_init 389 = .ok (.iastore, 1) := dk_79 (dk_at dksX6_init_16 5 rfl rfl)
theorem dX6_init_390 : decode cX6_init 390 = .ok (.dup, 1) := dk_89 (dk_at dksX6_init_16 6 rfl rfl)
theorem dX6_init_391 : decode cX6_init 391 = .ok (.bipush 63, 2) := dk_16 63 (dk_at dksX6_init_16 7 rfl rfl)
theorem dX6_init_393 : decode cX6_init 393 = .ok (.bipush 116, 2) := dk_16 116 (dk_at dksX6_init_16 9 rfl rfl)
theorem dX6_init_395 : decode cX6_init 395 = .ok (.iastore, 1) := dk_79 (dk_at dksX6_init_16 11 rfl rfl)
theorem dX6_init_396 : decode cX6_init 396 = .ok (.dup, 1) := dk_89 (dk_at dksX6_init_16 12 rfl rfl)
theorem dX6_init_397 : decode cX6_init 397 = .ok (.bipush 64, 2) := dk_16 64 (dk_at dksX6_init_16 13 rfl rfl)
theorem dX6_init_399 : decode cX6_init 399 = .ok (.bipush 105, 2) := dk_16 105 (dk_at dksX6_init_16 15 rfl rfl)
theorem dX6_init_401 : decode cX6_init 401 = .ok (.iastore, 1) := dk_79 (dk_at dksX6_init_16 17 rfl rfl)
theorem dX6_init_402 : decode cX6_init 402 = .ok (.dup, 1) := dk_89 (dk_at dksX6_init_16 18 rfl rfl)
theorem dX6_init_403 : decode cX6_init 403 = .ok (.bipush 65, 2) := dk_16 65 (dk_at dksX6_init_16 19 rfl rfl)
theorem dX6_init_405 : decode cX6_init 405 = .ok (.bipush 108, 2) := dk_16 108 (dk_at dksX6_init_16 21 rfl rfl)
theorem dX6_init_407 : decode cX6_init 407 = .ok (.iastore, 1) := dk_79 (dk_at dksX6_init_16 23 rfl rfl)
theorem dX6_init_408 : decode cX6_init 408 = .ok (.dup, 1) := dk_89 (dk_at dksX6_init_17 0 rfl rfl)
theorem dX6_init_409 : decode cX6_init 409 = .ok (.bipush 66, 2) := dk_16 66 (dk_at dksX6_init_17 1 rfl rfl)
theorem dX6_init_411 : decode cX6_init 411 = .ok (.bipush 108, 2) := dk_16 108 (dk_at dksX6_init_17 3 rfl rfl)
theorem dX6_init_413 : decode cX6_init 413 = .ok (.iastore, 1) := dk_79 (dk_at dksX6_init_17 5 rfl rfl)
theorem dX6_init_414 : decode cX6_init 414 = .ok (.dup, 1) := dk_89 (dk_at dksX6_init_17 6 rfl rfl)
theorem dX6_init_415 : decode cX6_init 415 = .ok (.bipush 67, 2) := dk_16 67 (dk_at dksX6_init_17 7 rfl rfl)
theorem dX6_init_417 : decode cX6_init 417 = .ok (.bipush 32, 2) := dk_16 32 (dk_at dksX6_init_17 9 rfl rfl)
theorem dX6_init_419 : decode cX6_init 419 = .ok (.iastore, 1) := dk_79 (dk_at dksX6_init_17 11 rfl rfl)
theorem dX6_init_420 : decode cX6_init 420 = .ok (.dup, 1) := dk_89 (dk_at dksX6_init_17 12 rfl rfl)
theorem dX6_init_421 : decode cX6_init 421 = .ok (.bipush 68, 2) := dk_16 68 (dk_at dksX6_init_17 13 rfl rfl)
theorem dX6_init_423 : decode cX6_init 423 = .ok (.bipush 112, 2) := dk_16 112 (dk_at dksX6_init_17 15 rfl rfl)
theorem dX6_init_425 : decode cX6_init 425 = .ok (.iastore, 1) := dk_79 (dk_at dksX6_init_17 17 rfl rfl)
theorem dX6_init_426 : decode cX6_init 426 = .ok (.dup, 1) := dk_89 (dk_at dksX6_init_17 18 rfl rfl)
theorem dX6_init_427 : decode cX6_init 427 = .ok (.bipush 69, 2) := dk_16 69 (dk_at dksX6_init_17 19 rfl rfl)
theorem dX6_init_429 : decode cX6_init 429 = .ok (.bipush 97, 2) := dk_16 97 (dk_at dksX6_init_17 21 rfl rfl)
theorem dX6_init_431 : decode cX6_init 431 = .ok (.iastore, 1) := dk_79 (dk_at dksX6_init_17 23 rfl rfl)
theorem dX6_init_432 : decode cX6_init 432 = .ok (.dup, 1) := dk_89 (dk_at dksX6_init_18 0 rfl rfl)
theorem dX6_init_433 : decode cX6_init 433 = .ok (.bipush 70, 2) := dk_16 70 (dk_at dksX6_init_18 1 rfl rfl)
theorem dX6_init_435 : decode cX6_init 435 = .ok (.bipush 121, 2) := dk_16 121 (dk_at dksX6_init_18 3 rfl rfl)
theorem dX6_init_437 : decode cX6_init 437 = .ok (.iastore, 1) := dk_79 (dk_at dksX6_init_18 5 rfl rfl)
theorem dX6_init_438 : decode cX6_init 438 = .ok (.dup, 1) := dk_89 (dk_at dksX6_init_18 6 rfl rfl)
theorem dX6_init_439 : decode cX6_init 439 = .ok (.bipush 71, 2) := dk_16 71 (dk_at dksX6_init_18 7 rfl rfl)
theorem dX6_init_441 : decode cX6_init 441 = .ok (.bipush 32, 2) := dk_16 32 (dk_at dksX6_init_18 9 rfl rfl)
theorem dX6_init_443 : decode cX6_init 443 = .ok (.iastore, 1) := dk_79 (dk_at dksX6_init_18 11 rfl rfl)
theorem dX6_init_444 : decode cX6_init 444 = .ok (.dup, 1) := dk_89 (dk_at dksX6_init_18 12 rfl rfl)
theorem dX6_init_445 : decode cX6_init 445 = .ok (.bipush 72, 2) := dk_16 72 (dk_at dksX6_init_18 13 rfl rfl)
theorem dX6_init_447 : decode cX6_init 447 = .ok (.bipush 97, 2) := dk_16 97 (dk_at dksX6_init_18 15 rfl rfl)
theorem dX6_init_449 : decode cX6_init 449 = .ok (.iastore, 1) := dk_79 (dk_at dksX6_init_18 17 rfl rfl)
theorem dX6_init_450 : decode cX6_init 450 = .ok (.dup, 1) := dk_89 (dk_at dksX6_init_18 18 rfl rfl)
theorem dX6_init_451 : decode cX6_init 451 = .ok (.bipush 73, 2) := dk_16 73 (dk_at dksX6_init_18 19 rfl rfl)
theorem dX6_init_453 : decode cX6_init 453 = .ok (.bipush 108, 2) := dk_16 108 (dk_at dksX6_init_18 21 rfl rfl)
theorem dX6_init_455 : decode cX6_init 455 = .ok (.iastore, 1) := dk_79 (dk_at dksX6_init_18 23 rfl rfl)
theorem dX6_init_456 : decode cX6_init 456 = .ok (.dup, 1) := dk_89 (dk_at dksX6_init_19 0 rfl rfl)
theorem dX6_init_457 : decode cX6_init 457 = .ok (.bipush 74, 2) := dk_16 74 (dk_at dksX6_init_19 1 rfl rfl)
theorem dX6_init_459 : decode cX6_init 459 = .ok (.bipush 105, 2) := dk_16 105 (dk_at dksX6_init_19 3 rfl rfl)
theorem dX6_init_461 : decode cX6_init 461 = .ok (.iastore, 1) := dk_79 (dk_at dksX6_init_19 5 rfl rfl)
theorem dX6_init_462 : decode cX6_init 462 = .ok (.dup, 1) := dk_89 (dk_at dksX6_init_19 6 rfl rfl)
theorem dX6_init_463 : decode cX6_init 463 = .ok (.bipush 75, 2) := dk_16 75 (dk_at dksX6_init_19 7 rfl rfl)
theorem dX6_init_465 : decode cX6_init 465 = .ok (.bipush 118, 2) := dk_16 118 (dk_at dksX6_init_19 9 rfl rfl)
theorem dX6_init_467 : decode cX6_init 467 = .ok (.iastore, 1) := dk_79 (dk_at dksX6_init_19 11 rfl rfl)
theorem dX6_init_468 : decode cX6_init 468 = .ok (.dup, 1) := dk_89 (dk_at dksX6_init_19 12 rfl rfl)
theorem dX6_init_469 : decode cX6_init 469 = .ok (.bipush 76, 2) := dk_16 76 (dk_at dksX6_init_19 13 rfl rfl)
theorem dX6_init_471 : decode cX6_init 471 = .ok (.bipush 101, 2) := dk_16 101 (dk_at dksX6_init_19 15 rfl rfl)
theorem dX6_init_473 : decode cX6_init 473 = .ok (.iastore, 1) := dk_79 (dk_at dksX6_init_19 17 rfl rfl)
theorem dX6_init_474 : decode cX6_init 474 = .ok (.dup, 1) := dk_89 (dk_at dksX6_init_19 18 rfl rfl)
theorem dX6_init_475 : decode cX6_init 475 = .ok (.bipush 77, 2) := dk_16 77 (dk_at dksX6_init_19 19 rfl rfl)
theorem dX6_init_477 : decode cX6_init 477 = .ok (.bipush 32, 2) := dk_16 32 (dk_at dksX6_init_19 21 rfl rfl)
theorem dX6_init_479 : decode cX6_init 479 = .ok (.iastore, 1) := dk_79 (dk_at dksX6_init_19 23 rfl rfl)
theorem dX6_init_480 : decode cX6_init 480 = .ok (.dup, 1) := dk_89 (dk_at dksX6_init_20 0 rfl rfl)
theorem dX6_init_481 : decode cX6_init 481 = .ok (.bipush 78, 2) := dk_16 78 (dk_at dksX6_init_20 1 rfl rfl)
theorem dX6_init_483 : decode cX6_init 483 = .ok (.bipush 97, 2) := dk_16 97 (dk_at dksX6_init_20 3 rfl rfl)
theorem dX6_init_485 : decode cX6_init 485 = .ok (.iastore, 1) := dk_79 (dk_at dksX6_init_20 5 rfl rfl)
theorem dX6_init_486 : decode cX6_init 486 = .ok (.dup, 1) := dk_89 (dk_at dksX6_init_20 6 rfl rfl)
theorem dX6_init_487 : decode cX6_init 487 = .ok (.bipush 79, 2) := dk_16 79 (dk_at dksX6_init_20 7 rfl rfl)
theorem dX6_init_489 : decode cX6_init 489 = .ok (.bipush 102, 2) := dk_16 102 (dk_at dksX6_init_20 9 rfl rfl)
theorem dX6_init_491 : decode cX6_init 491 = .ok (.iastore, 1) := dk_79 (dk_at dksX6_init_20 11 rfl rfl)
theorem dX6_init_492 : decode cX6_init 492 = .ok (.dup, 1) := dk_89 (dk_at dksX6_init_20 12 rfl rfl)
theorem dX6_init_493 : decode cX6_init 493 = .ok (.bipush 80, 2) := dk_16 80 (dk_at dksX6_init_20 13 rfl rfl)
theorem dX6_init_495 : decode cX6_init 495 = .ok (.bipush 116, 2) := dk_16 116 (dk_at dksX6_init_20 15 rfl rfl)
theorem dX6_init_497 : decode cX6_init 497 = .ok (.iastore, 1) := dk_79 (dk_at dksX6_init_20 17 rfl rfl)
theorem dX6_init_498 : decode cX6_init 498 = .ok (.dup, 1) := dk_89 (dk_at dksX6_init_20 18 rfl rfl)
theorem dX6_init_499 : decode cX6_init 499 = .ok (.bipush 81, 2) := dk_16 81 (dk_at dksX6_init_20 19 rfl rfl)
theorem dX6_init_501 : decode cX6_init 501 = .ok (.bipush 101, 2) := dk_16 101 (dk_at dksX6_init_20 21 rfl rfl)
theorem dX6_init_503 : decode cX6_init 503 = .ok (.iastore, 1) := dk_79 (dk_at dksX6_init_20 23 rfl rfl)
theorem dX6_init_504 : decode cX6_init 504 = .ok (.dup, 1) := dk_89 (dk_at dksX6_init_21 0 rfl rfl)
theorem dX6_init_505 : decode cX6_init 505 = .ok (.bipush 82, 2) := dk_16 82 (dk_at dksX6_init_21 1 rfl rfl)
theorem dX6_init_507 : decode cX6_init 507 = .ok (.bipush 114, 2) := dk_16 114 (dk_at dksX6_init_21 3 rfl rfl)
theorem dX6_init_509 : decode cX6_init 509 = .ok (.iastore, 1) := dk_79 (dk_at dksX6_init_21 5 rfl rfl)
theorem dX6_init_510 : decode cX6_init 510 = .ok (.dup, 1) := dk_89 (dk_at dksX6_init_21 6 rfl rfl)
theorem dX6_init_511 : decode cX6_init 511 = .ok (.bipush 83, 2) := dk_16 83 (dk_at dksX6_init_21 7 rfl rfl)
theorem dX6_init_513 : decode cX6_init 513 = .ok (.bipush 32, 2) := dk_16 32 (dk_at dksX6_init_21 9 rfl rfl)
theorem dX6_init_515 : decode cX6_init 515 = .ok (.iastore, 1) := dk_79 (dk_at dksX6_init_21 11 rfl rfl)
theorem dX6_init_516 : decode cX6_init 516 = .ok (.dup, 1) := dk_89 (dk_at dksX6_init_21 12 rfl rfl)
theorem dX6_init_517 : decode cX6_init 517 = .ok (.bipush 84, 2) := dk_16 84 (dk_at dksX6_init_21 13 rfl rfl)
theorem dX6_init_519 : decode cX6_init 519 = .ok (.bipush 97, 2) := dk_16 97 (dk_at dksX6_init_21 15 rfl rfl)
theorem dX6_init_521 : decode cX6_init 521 = .ok (.iastore, 1) := dk_79 (dk_at dksX6_init_21 17 rfl rfl)
theorem dX6_init_522 : decode cX6_init 522 = .ok (.dup, 1) := dk_89 (dk_at dksX6_init_21 18 rfl rfl)
theorem dX6_init_523 : decode cX6_init 523 = .ok (.bipush 85, 2) := dk_16 85 (dk_at dksX6_init_21 19 rfl rfl)
theorem dX6_init_525 : decode cX6_init 525 = .ok (.bipush 110, 2) := dk_16 110 (dk_at dksX6_init_21 21 rfl rfl)
theorem dX6_init_527 : decode cX6_init 527 = .ok (.iastore, 1) := dk_79 (dk_at dksX6_init_21 23 rfl rfl)
theorem dX6_init_528 : decode cX6_init 528 = .ok (.dup, 1) := dk_89 (dk_at dksX6_init_22 0 rfl rfl)
theorem dX6_init_529 : decode cX6_init 529 = .ok (.bipush 86, 2) := dk_16 86 (dk_at dksX6_init_22 1 rfl rfl)
theorem dX6_init_531 : decode cX6_init 531 = .ok (.bipush 100, 2) := dk_16 100 (dk_at dksX6_init_22 3 rfl rfl)
theorem dX6_init_533 : decode cX6_init 533 = .ok (.iastore, 1) := dk_79 (dk_at dksX6_init_22 5 rfl rfl)
theorem dX6_init_534 : decode cX6_init 534 = .ok (.dup, 1) := dk_89 (dk_at dksX6_init_22 6 rfl rfl)
theorem dX6_init_535 : decode cX6_init 535 = .ok (.bipush 87, 2) := dk_16 87 (dk_at dksX6_init_22 7 rfl rfl)
theorem dX6_init_537 : decode cX6_init 537 = .ok (.bipush 32, 2) := dk_16 32 (dk_at dksX6_init_22 9 rfl rfl)
theorem dX6_init_539 : decode cX6_init 539 = .ok (.iastore, 1) := dk_79 (dk_at dksX6_init_22 11 rfl rfl)
theorem dX6_init_540 : decode cX6_init 540 = .ok (.dup, 1) := dk_89 (dk_at dksX6_init_22 12 rfl rfl)
theorem dX6_init_541 : decode cX6_init 541 = .ok (.bipush 88, 2) := dk_16 88 (dk_at dksX6_init_22 13 rfl rfl)
theorem dX6_init_543 : decode cX6_init 543 = .ok (.bipush 111, 2) := dk_16 111 (dk_at dksX6_init_22 15 rfl rfl)
theorem dX6_init_545 : decode cX6_init 545 = .ok (.iastore, 1) := dk_79 (dk_at dksX6_init_22 17 rfl rfl)
theorem dX6_init_546 : decode cX6_init 546 = .ok (.dup, 1) := dk_89 (dk_at dksX6_init_22 18 rfl rfl)
theorem dX6_init_547 : decode cX6_init 547 = .ok (.bipush 89, 2) := dk_16 89 (dk_at dksX6_init_22 19 rfl rfl)
theorem dX6_init_549 : decode cX6_init 549 = .ok (.bipush 114, 2) := dk_16 114 (dk_at dksX6_init_22 21 rfl rfl)
theorem dX6_init_551 : decode cX6_init 551 = .ok (.iastore, 1) := dk_79 (dk_at dksX6_init_22 23 rfl rfl)
theorem dX6_init_552 : decode cX6_init 552 = .ok (.dup, 1) := dk_89 (dk_at dksX6_init_23 0 rfl rfl)
theorem dX6_init_553 : decode cX6_init 553 = .ok (.bipush 90, 2) := dk_16 90 (dk_at dksX6_init_23 1 rfl rfl)
theorem dX6_init_555 : decode cX6_init 555 = .ok (.bipush 32, 2) := dk_16 32 (dk_at dksX6_init_23 3 rfl rfl)
theorem dX6_init_557 : decode cX6_init 557 = .ok (.iastore, 1) := dk_79 (dk_at dksX6_init_23 5 rfl rfl)
theorem dX6_init_558 : decode cX6_init 558 = .ok (.dup, 1) := dk_89 (dk_at dksX6_init_23 6 rfl rfl)
theorem dX6_init_559 : decode cX6_init 559 = .ok (.bipush 91, 2) := dk_16 91 (dk_at dksX6_init_23 7 rfl rfl)
theorem dX6_init_561 : decode cX6_init 561 = .ok (.bipush 110, 2) := dk_16 110 (dk_at dksX6_init_23 9 rfl rfl)
theorem dX6_init_563 : decode cX6_init 563 = .ok (.iastore, 1) := dk_79 (dk_at dksX6_init_23 11 rfl rfl)
theorem dX6_init_564 : decode cX6_init 564 = .ok (.dup, 1) := dk_89 (dk_at dksX6_init_23 12 rfl rfl)
theorem dX6_init_565 : decode cX6_init 565 = .ok (.bipush 92, 2) := dk_16 92 (dk_at dksX6_init_23 13 rfl rfl)
theorem dX6_init_567 : decode cX6_init 567 = .ok (.bipush 111, 2) := dk_16 111 (dk_at dksX6_init_23 15 rfl rfl)
theorem dX6_init_569 : decode cX6_init 569 = .ok (.iastore, 1) := dk_79 (dk_at dksX6_init_23 17 rfl rfl)
theorem dX6_init_570 : decode cX6_init 570 = .ok (.dup, 1) := dk_89 (dk_at dksX6_init_23 18 rfl rfl)
theorem dX6_init_571 : decode cX6_init 571 = .ok (.bipush 93, 2) := dk_16 93 (dk_at dksX6_init_23 19 rfl rfl)
theorem dX6_init_573 : decode cX6_init 573 = .ok (.bipush 116, 2) := dk_16 116 (dk_at dksX6_init_23 21 rfl rfl)
theorem dX6_init_575 : decode cX6_init 575 = .ok (.iastore, 1) := dk_79 (dk_at dksX6_init_23 23 rfl rfl)
theorem dX6_init_576 : decode cX6_init 576 = .ok (.dup, 1) := dk_89 (dk_at dksX6_init_24 0 rfl rfl)
theorem dX6_init_577 : decode cX6_init 577 = .ok (.bipush 94, 2) := dk_16 94 (dk_at dksX6_init_24 1 rfl rfl)
theorem dX6_init_579 : decode cX6_init 579 = .ok (.bipush 32, 2) := dk_16 32 (dk_at dksX6_init_24 3 rfl rfl)
theorem dX6_init_581 : decode cX6_init 581 = .ok (.iastore, 1) := dk_79 (dk_at dksX6_init_24 5 rfl rfl)
theorem dX6_init_582 : decode cX6_init 582 = .ok (.dup, 1) := dk_89 (dk_at dksX6_init_24 6 rfl rfl)
theorem dX6_init_583 : decode cX6_init 583 = .ok (.bipush 95, 2) := dk_16 95 (dk_at dksX6_init_24 7 rfl rfl)
theorem dX6_init_585 : decode cX6_init 585 = .ok (.bipush 100, 2) := dk_16 100 (dk_at dksX6_init_24 9 rfl rfl)
theorem dX6_init_587 : decode cX6_init 587 = .ok (.iastore, 1) := dk_79 (dk_at dksX6_init_24 11 rfl rfl)
theorem dX6_init_588 : decode cX6_init 588 = .ok (.dup, 1) := dk_89 (dk_at dksX6_init_24 12 rfl rfl)
theorem dX6_init_589 : decode cX6_init 589 = .ok (.bipush 96, 2) := dk_16 96 (dk_at dksX6_init_24 13 rfl rfl)
theorem dX6_init_591 : decode cX6_init 591 = .ok (.bipush 97, 2) := dk_16 97 (dk_at dksX6_init_24 15 rfl rfl)
theorem dX6_init_593 : decode cX6_init 593 = .ok (.iastore, 1) := dk_79 (dk_at dksX6_init_24 17 rfl rfl)
theorem dX6_init_594 : decode cX6_init 594 = .ok (.dup, 1) := dk_89 (dk_at dksX6_init_24 18 rfl rfl)
theorem dX6_init_595 : decode cX6_init 595 = .ok (.bipush 97, 2) := dk_16 97 (dk_at dksX6_init_24 19 rfl rfl)
theorem dX6_init_597 : decode cX6_init 597 = .ok (.bipush 121, 2) := dk_16 121 (dk_at dksX6_init_24 21 rfl rfl)
theorem dX6_init_599 : decode cX6_init 599 = .ok (.iastore, 1) := dk_79 (dk_at dksX6_init_24 23 rfl rfl)
theorem dX6_init_600 : decode cX6_init 600 = .ok (.dup, 1) := dk_89 (dk_at dksX6_init_25 0 rfl rfl)
theorem dX6_init_601 : decode cX6_init 601 = .ok (.bipush 98, 2) := dk_16 98 (dk_at dksX6_init_25 1 rfl rfl)
theorem dX6_init_603 : decode cX6_init 603 = .ok (.bipush 32, 2) := dk_16 32 (dk_at dksX6_init_25 3 rfl rfl)
theorem dX6_init_605 : decode cX6_init 605 = .ok (.iastore, 1) := dk_79 (dk_at dksX6_init_25 5 rfl rfl)
theorem dX6_init_606 : decode cX6_init 606 = .ok (.dup, 1) := dk_89 (dk_at dksX6_init_25 6 rfl rfl)
theorem dX6_init_607 : decode cX6_init 607 = .ok (.bipush 99, 2) := dk_16 99 (dk_at dksX6_init_25 7 rfl rfl)
theorem dX6_init_609 : decode cX6_init 609 = .ok (.bipush 121, 2) := dk_16 121 (dk_at dksX6_init_25 9 rfl rfl)
theorem dX6_init_611 : decode cX6_init 611 = .ok (.iastore, 1) := dk_79 (dk_at dksX6_init_25 11 rfl rfl)
theorem dX6_init_612 : decode cX6_init 612 = .ok (.dup, 1) := dk_89 (dk_at dksX6_init_25 12 rfl rfl)
theorem dX6_init_613 : decode cX6_init 613 = .ok (.bipush 100, 2) := dk_16 100 (dk_at dksX6_init_25 13 rfl rfl)
theorem dX6_init_615 : decode cX6_init 615 = .ok (.bipush 101, 2) := dk_16 101 (dk_at dksX6_init_25 15 rfl rfl)
theorem dX6_init_617 : decode cX6_init 617 = .ok (.iastore, 1) := dk_79 (dk_at dksX6_init_25 17 rfl rfl)
theorem dX6_init_618 : decode cX6_init 618 = .ok (.dup, 1) := dk_89 (dk_at dksX6_init_25 18 rfl rfl)
theorem dX6_init_619 : decode cX6_init 619 = .ok (.bipush 101, 2) := dk_16 101 (dk_at dksX6_init_25 19 rfl rfl)
theorem dX6_init_621 : decode cX6_init 621 = .ok (.bipush 97, 2) := dk_16 97 (dk_at dksX6_init_25 21 rfl rfl)
theorem dX6_init_623 : decode cX6_init 623 = .ok (.iastore, 1) := dk_79 (dk_at dksX6_init_25 23 rfl rfl)
theorem dX6_init_624 : decode cX6_init 624 = .ok (.dup, 1) := dk_89 (dk_at dksX6_init_26 0 rfl rfl)
theorem dX6_init_625 : decode cX6_init 625 = .ok (.bipush 102, 2) := dk_16 102 (dk_at dksX6_init_26 1 rfl rfl)
theorem dX6_init_627 : decode cX6_init 627 = .ok (.bipush 114, 2) := dk_16 114 (dk_at dksX6_init_26 3 rfl rfl)
theorem dX6_init_629 : decode cX6_init 629 = .ok (.iastore, 1) := dk_79 (dk_at dksX6_init_26 5 rfl rfl)
theorem dX6_init_630 : decode cX6_init 630 = .ok (.dup, 1) := dk_89 (dk_at dksX6_init_26 6 rfl rfl)
theorem dX6_init_631 : decode cX6_init 631 = .ok (.bipush 103, 2) := dk_16 103 (dk_at dksX6_init_26 7 rfl rfl)
theorem dX6_init_633 : decode cX6_init 633 = .ok (.bipush 32, 2) := dk_16 32 (dk_at dksX6_init_26 9 rfl rfl)
theorem dX6_init_635 : decode cX6_init 635 = .ok (.iastore, 1) := dk_79 (dk_at dksX6_init_26 11 rfl rfl)
theorem dX6_init_636 : decode cX6_init 636 = .ok (.dup, 1) := dk_89 (dk_at dksX6_init_26 12 rfl rfl)
theorem dX6_init_637 : decode cX6_init 637 = .ok (.bipush 104, 2) := dk_16 104 (dk_at dksX6_init_26 13 rfl rfl)
theorem dX6_init_639 : decode cX6_init 639 = .ok (.bipush 115, 2) := dk_16 115 (dk_at dksX6_init_26 15 rfl rfl)
theorem dX6_init_641 : decode cX6_init 641 = .ok (.iastore, 1) := dk_79 (dk_at dksX6_init_26 17 rfl rfl)
theorem dX6_init_642 : decode cX6_init 642 = .ok (.dup, 1) := dk_89 (dk_at dksX6_init_26 18 rfl rfl)
theorem dX6_init_643 : decode cX6_init 643 = .ok (.bipush 105, 2) := dk_16 105 (dk_at dksX6_init_26 19 rfl rfl)
theorem dX6_init_645 : decode cX6_init 645 = .ok (.bipush 101, 2) := dk_16 101 (dk_at dksX6_init_26 21 rfl rfl)
theorem dX6_init_647 : decode cX6_init 647 = .ok (.iastore, 1) := dk_79 (dk_at dksX6_init_26 23 rfl rfl)
theorem dX6_init_648 : decode cX6_init 648 = .ok (.dup, 1) := dk_89 (dk_at dksX6_init_27 0 rfl rfl)
theorem dX6_init_649 : decode cX6_init 649 = .ok (.bipush 106, 2) := dk_16 106 (dk_at dksX6_init_27 1 rfl rfl)
theorem dX6_init_651 : decode cX6_init 651 = .ok (.bipush 97, 2) := dk_16 97 (dk_at dksX6_init_27 3 rfl rfl)
theorem dX6_init_653 : decode cX6_init 653 = .ok (.iastore, 1) := dk_79 (dk_at dksX6_init_27 5 rfl rfl)
theorem dX6_init_654 : decode cX6_init 654 = .ok (.dup, 1) := dk_89 (dk_at dksX6_init_27 6 rfl rfl)
theorem dX6_init_655 : decode cX6_init 655 = .ok (.bipush 107, 2) := dk_16 107 (dk_at dksX6_init_27 7 rfl rfl)
theorem dX6_init_657 : decode cX6_init 657 = .ok (.bipush 115, 2) := dk_16 115 (dk_at dksX6_init_27 9 rfl rfl)
theorem dX6_init_659 : decode cX6_init 659 = .ok (.iastore, 1) := dk_79 (dk_at dksX6_init_27 11 rfl rfl)
theorem dX6_init_660 : decode cX6_init 660 = .ok (.dup, 1) := dk_89 (dk_at dksX6_init_27 12 rfl rfl)
theorem dX6_init_661 : decode cX6_init 661 = .ok (.bipush 108, 2) := dk_16 108 (dk_at dksX6_init_27 13 rfl rfl)
theorem dX6_init_663 : decode cX6_init 663 = .ok (.bipush 111, 2) := dk_16 111 (dk_at dksX6_init_27 15 rfl rfl)
theorem dX6_init_665 : decode cX6_init 665 = .ok (.iastore, 1) := dk_79 (dk_at dksX6_init_27 17 rfl rfl)
theorem dX6_init_666 : decode cX6_init 666 = .ok (.dup, 1) := dk_89 (dk_at dksX6_init_27 18 rfl rfl)
theorem dX6_init_667 : decode cX6_init 667 = .ok (.bipush 109, 2) := dk_16 109 (dk_at dksX6_init_27 19 rfl rfl)
theorem dX6_init_669 : decode cX6_init 669 = .ok (.bipush 110, 2) := dk_16 110 (dk_at dksX6_init_27 21 rfl rfl)
theorem dX6_init_671 : decode cX6_init 671 = .ok (.iastore, 1) := dk_79 (dk_at dksX6_init_27 23 rfl rfl)
theorem dX6_init_672 : decode cX6_init 672 = .ok (.dup, 1) := dk_89 (dk_at dksX6_init_28 0 rfl rfl)
theorem dX6_init_673 : decode cX6_init 673 = .ok (.bipush 110, 2) := dk_16 110 (dk_at dksX6_init_28 1 rfl rfl)
theorem dX6_init_675 : decode cX6_init 675 = .ok (.bipush 32, 2) := dk_16 32 (dk_at dksX6_init_28 3 rfl rfl)
theorem dX6_init_677 : decode cX6_init 677 = .ok (.iastore, 1) := dk_79 (dk_at dksX6_init_28 5 rfl rfl)
theorem dX6_init_678 : decode cX6_init 678 = .ok (.dup, 1) := dk_89 (dk_at dksX6_init_28 6 rfl rfl)
theorem dX6_init_679 : decode cX6_init 679 = .ok (.bipush 111, 2) := dk_16 111 (dk_at dksX6_init_28 7 rfl rfl)
theorem dX6_init_681 : decode cX6_init 681 = .ok (.bipush 108, 2) := dk_16 108 (dk_at dksX6_init_28 9 rfl rfl)
theorem dX6_init_683 : decode cX6_init 683 = .ok (.iastore, 1) := dk_79 (dk_at dksX6_init_28 11 rfl rfl)
theorem dX6_init_684 : decode cX6_init 684 = .ok (.dup, 1) := dk_89 (dk_at dksX6_init_28 12 rfl rfl)
theorem dX6_init_685 : decode cX6_init 685 = .ok (.bipush 112, 2) := dk_16 112 (dk_at dksX6_init_28 13 rfl rfl)
theorem dX6_init_687 : decode cX6_init 687 = .ok (.bipush 101, 2) := dk_16 101 (dk_at dksX6_init_28 15 rfl rfl)
theorem dX6_init_689 : decode cX6_init 689 = .ok (.iastore, 1) := dk_79 (dk_at dksX6_init_28 17 rfl rfl)
theorem dX6_init_690 : decode cX6_init 690 = .ok (.dup, 1) := dk_89 (dk_at dksX6_init_28 18 rfl rfl)
theorem dX6_init_691 : decode cX6_init 691 = .ok (.bipush 113, 2) := dk_16 113 (dk_at dksX6_init_28 19 rfl rfl)
theorem dX6_init_693 : decode cX6_init 693 = .ok (.bipush 110, 2) := dk_16 110 (dk_at dksX6_init_28 21 rfl rfl)
theorem dX6_init_695 : decode cX6_init 695 = .ok (.iastore, 1) := dk_79 (dk_at dksX6_init_28 23 rfl rfl)
theorem dX6_init_696 : decode cX6_init 696 = .ok (.dup, 1) := dk_89 (dk_at dksX6_init_29 0 rfl rfl)
theorem dX6_init_697 : decode cX6_init 697 = .ok (.bipush 114, 2) := dk_16 114 (dk_at dksX6_init_29 1 rfl rfl)
theorem dX6_init_699 : decode cX6_init 699 = .ok (.bipush 103, 2) := dk_16 103 (dk_at dksX6_init_29 3 rfl rfl)
theorem dX6_init_701 : decode cX6_init 701 = .ok (.iastore, 1) := dk_79 (dk_at dksX6_init_29 5 rfl rfl)
theorem dX6_init_702 : decode cX6_init 702 = .ok (.dup, 1) := dk_89 (dk_at dksX6_init_29 6 rfl rfl)
theorem dX6_init_703 : decode cX6_init 703 = .ok (.bipush 115, 2) := dk_16 115 (dk_at dksX6_init_29 7 rfl rfl)
theorem dX6_init_705 : decode cX6_init 705 = .ok (.bipush 116, 2) := dk_16 116 (dk_at dksX6_init_29 9 rfl rfl)
theorem dX6_init_707 : decode cX6_init 707 = .ok (.iastore, 1) := dk_79 (dk_at dksX6_init_29 11 rfl rfl)
theorem dX6_init_708 : decode cX6_init 708 = .ok (.dup, 1) := dk_89 (dk_at dksX6_init_29 12 rfl rfl)
theorem dX6_init_709 : decode cX6_init 709 = .ok (.bipush 116, 2) := dk_16 116 (dk_at dksX6_init_29 13 rfl rfl)
theorem dX6_init_711 : decode cX6_init 711 = .ok (.bipush 104, 2) := dk_16 104 (dk_at dksX6_init_29 15 rfl rfl)
theorem dX6_init_713 : decode cX6_init 713 = .ok (.iastore, 1) := dk_79 (dk_at dksX6_init_29 17 rfl rfl)
theorem dX6_init_714 : decode cX6_init 714 = .ok (.dup, 1) := dk_89 (dk_at dksX6_init_29 18 rfl rfl)
theorem dX6_init_715 : decode cX6_init 715 = .ok (.bipush 117, 2) := dk_16 117 (dk_at dksX6_init_29 19 rfl rfl)
theorem dX6_init_717 : decode cX6_init 717 = .ok (.bipush 32, 2) := dk_16 32 (dk_at dksX6_init_29 21 rfl rfl)
theorem dX6_init_719 : decode cX6_init 719 = .ok (.iastore, 1) := dk_79 (dk_at dksX6_init_29 23 rfl rfl)
theorem dX6_init_720 : decode cX6_init 720 = .ok (.putfield 13, 3) := dk_181 0 13 (dk_at dksX6_init_30 0 rfl rfl)
theorem dX6_init_723 : decode cX6_init 723 = .ok (.aload_n 0, 1) := dk_42 (dk_at dksX6_init_30 3 rfl rfl)
theorem dX6_init_724 : decode cX6_init 724 = .ok (.iconst (-1), 1) := dk_2 (dk_at dksX6_init_30 4 rfl rfl)
theorem dX6_init_725 : decode cX6_init 725 = .ok (.putfield 16, 3) := dk_181 0 16 (dk_at dksX6_init_30 5 rfl rfl)
theorem dX6_init_728 : decode cX6_init 728 = .ok (.aload_n 0, 1) := dk_42 (dk_at dksX6_init_30 8 rfl rfl)
theorem dX6_init_729 : decode cX6_init 729 = .ok (.bipush 14, 2) := dk_16 14 (dk_at dksX6_init_30 9 rfl rfl)
theorem dX6_init_731 : decode cX6_init 731 = .ok (.newarray .int, 2) := dk_188_10 (dk_at dksX6_init_30 11 rfl rfl)
theorem dX6_init_733 : decode cX6_init 733 = .ok (.putfield 20, 3) := dk_181 0 20 (dk_at dksX6_init_30 13 rfl rfl)
theorem dX6_init_736 : decode cX6_init 736 = .ok (.aload_n 0, 1) := dk_42 (dk_at dksX6_init_30 16 rfl rfl)
theorem dX6_init_737 : decode cX6_init 737 = .ok (.bipush 8, 2) := dk_16 8 (dk_at dksX6_init_30 17 rfl rfl)
theorem dX6_init_739 : decode cX6_init 739 = .ok (.newarray .int, 2) := dk_188_10 (dk_at dksX6_init_30 19 rfl rfl)
theorem dX6_init_741 : decode cX6_init 741 = .ok (.putfield 23, 3) := dk_181 0 23 (dk_at dksX6_init_30 21 rfl rfl)
theorem dX6_init_744 : decode cX6_init 744 = .ok (.aload_n 0, 1) := dk_42 (dk_at dksX6_init_31 0 rfl rfl)
theorem dX6_init_745 : decode cX6_init 745 = .ok (.bipush 24, 2) := dk_16 24 (dk_at dksX6_init_31 1 rfl rfl)
theorem dX6_init_747 : decode cX6_init 747 = .ok (.newarray .int, 2) := dk_188_10 (dk_at dksX6_init_31 3 rfl rfl)
theorem dX6_init_749 : decode cX6_init 749 = .ok (.putfield 26, 3) := dk_181 0 26 (dk_at dksX6_init_31 5 rfl rfl)
theorem dX6_init_752 : decode cX6_init 752 = .ok (.aload_n 0, 1) := dk_42 (dk_at dksX6_init_31 8 rfl rfl)
theorem dX6_init_753 : decode cX6_init 753 = .ok (.bipush 8, 2) := dk_16 8 (dk_at dksX6_init_31 9 rfl rfl)
theorem dX6_init_755 : decode cX6_init 755 = .ok (.newarray .int, 2) := dk_188_10 (dk_at dksX6_init_31 11 rfl rfl)
theorem dX6_init_757 : decode cX6_init 757 = .ok (.putfield 29, 3) := dk_181 0 29 (dk_at dksX6_init_31 13 rfl rfl)
theorem dX6_init_760 : decode cX6_init 760 = .ok (.aload_n 0, 1) := dk_42 (dk_at dksX6_init_31 16 rfl rfl)
theorem dX6_init_761 : decode cX6_init 761 = .ok (.bipush 8, 2) := dk_16 8 (dk_at dksX6_init_31 17 rfl rfl)
theorem dX6_init_763 : decode cX6_init 763 = .ok (.newarray .int, 2) := dk_188_10 (dk_at dksX6_init_31 19 rfl rfl)
theorem dX6_init_765 : decode cX6_init 765 = .ok (.putfield 32, 3) := dk_181 0 32 (dk_at dksX6_init_31 21 rfl rfl)
theorem dX6_init_768 : decode cX6_init 768 = .ok (.aload_n 0, 1) := dk_42 (dk_at dksX6_init_32 0 rfl rfl)
theorem dX6_init_769 : decode cX6_init 769 = .ok (.bipush 8, 2) := dk_16 8 (dk_at dksX6_init_32 1 rfl rfl)
theorem dX6_init_771 : decode cX6_init 771 = .ok (.newarray .int, 2) := dk_188_10 (dk_at dksX6_init_32 3 rfl rfl)
theorem dX6_init_773 : decode cX6_init 773 = .ok (.putfield 35, 3) := dk_181 0 35 (dk_at dksX6_init_32 5 rfl rfl)
theorem dX6_init_776 : decode cX6_init 776 = .ok (.aload_n 0, 1) := dk_42 (dk_at dksX6_init_32 8 rfl rfl)
theorem dX6_init_777 : decode cX6_init 777 = .ok (.bipush 12, 2) := dk_16 12 (dk_at dksX6_init_32 9 rfl rfl)
theorem dX6_init_779 : decode cX6_init 779 = .ok (.newarray .int, 2) := dk_188_10 (dk_at dksX6_init_32 11 rfl rfl)
theorem dX6_init_781 : decode cX6_init 781 = .ok (.putfield 38, 3) := dk_181 0 38 (dk_at dksX6_init_32 13 rfl rfl)
theorem dX6_init_784 : decode cX6_init 784 = .ok (.aload_n 0, 1) := dk_42 (dk_at dksX6_init_32 16 rfl rfl)
theorem dX6_init_785 : decode cX6_init 785 = .ok (.bipush 12, 2) := dk_16 12 (dk_at dksX6_init_32 17 rfl rfl)
theorem dX6_init_787 : decode cX6_init 787 = .ok (.newarray .long, 2) := dk_188_11 (dk_at dksX6_init_32 19 rfl rfl)
theorem dX6_init_789 : decode cX6_init 789 = .ok (.putfield 41, 3) := dk_181 0 41 (dk_at dksX6_init_32 21 rfl rfl)
theorem dX6_init_792 : decode cX6_init 792 = .ok (.aload_n 0, 1) := dk_42 (dk_at dksX6_init_33 0 rfl rfl)
theorem dX6_init_793 : decode cX6_init 793 = .ok (.bipush 12, 2) := dk_16 12 (dk_at dksX6_init_33 1 rfl rfl)
theorem dX6_init_795 : decode cX6_init 795 = .ok (.newarray .long, 2) := dk_188_11 (dk_at dksX6_init_33 3 rfl rfl)
theorem dX6_init_797 : decode cX6_init 797 = .ok (.putfield 45, 3) := dk_181 0 45 (dk_at dksX6_init_33 5 rfl rfl)
theorem dX6_init_800 : decode cX6_init 800 = .ok (.aload_n 0, 1) := dk_42 (dk_at dksX6_init_33 8 rfl rfl)
theorem dX6_init_801 : decode cX6_init 801 = .ok (.bipush 8, 2) := dk_16 8 (dk_at dksX6_init_33 9 rfl rfl)
theorem dX6_init_803 : decode cX6_init 803 = .ok (.newarray .int, 2) := dk_188_10 (dk_at dksX6_init_33 11 rfl rfl)
theorem dX6_init_805 : decode cX6_init 805 = .ok (.putfield 48, 3) := dk_181 0 48 (dk_at dksX6_init_33 13 rfl rfl)
theorem dX6_init_808 : decode cX6_init 808 = .ok (.aload_n 0, 1) := dk_42 (dk_at dksX6_init_33 16 rfl rfl)
theorem dX6_init_809 : decode cX6_init 809 = .ok (.bipush 8, 2) := dk_16 8 (dk_at dksX6_init_33 17 rfl rfl)
theorem dX6_init_811 : decode cX6_init 811 = .ok (.newarray .long, 2) := dk_188_11 (dk_at dksX6_init_33 19 rfl rfl)
theorem dX6_init_813 : decode cX6_init 813 = .ok (.putfield 51, 3) := dk_181 0 51 (dk_at dksX6_init_33 21 rfl rfl)
theorem dX6_init_816 : decode cX6_init 816 = .ok (.aload_n 0, 1) := dk_42 (dk_at dksX6_init_34 0 rfl rfl)
theorem dX6_init_817 : decode cX6_init 817 = .ok (.bipush 24, 2) := dk_16 24 (dk_at dksX6_init_34 1 rfl rfl)
theorem dX6_init_819 : decode cX6_init 819 = .ok (.newarray .int, 2) := dk_188_10 (dk_at dksX6_init_34 3 rfl rfl)
theorem dX6_init_821 : decode cX6_init 821 = .ok (.putfield 54, 3) := dk_181 0 54 (dk_at dksX6_init_34 5 rfl rfl)
theorem dX6_init_824 : decode cX6_init 824 = .ok (.aload_n 0, 1) := dk_42 (dk_at dksX6_init_34 8 rfl rfl)
theorem dX6_init_825 : decode cX6_init 825 = .ok (.bipush 12, 2) := dk_16 12 (dk_at dksX6_init_34 9 rfl rfl)
theorem dX6_init_827 : decode cX6_init 827 = .ok (.newarray .int, 2) := dk_188_10 (dk_at dksX6_init_34 11 rfl rfl)
theorem dX6_init_829 : decode cX6_init 829 = .ok (.putfield 57, 3) := dk_181 0 57 (dk_at dksX6_init_34 13 rfl rfl)
theorem dX6_init_832 : decode cX6_init 832 = .ok (.aload_n 0, 1) := dk_42 (dk_at dksX6_init_34 16 rfl rfl)
theorem dX6_init_833 : decode cX6_init 833 = .ok (.sipush 264, 3) := dk_17 1 8 (dk_at dksX6_init_34 17 rfl rfl)
theorem dX6_init_836 : decode cX6_init 836 = .ok (.newarray .int, 2) := dk_188_10 (dk_at dksX6_init_34 20 rfl rfl)
theorem dX6_init_838 : decode cX6_init 838 = .ok (.putfield 60, 3) := dk_181 0 60 (dk_at dksX6_init_35 0 rfl rfl)
theorem dX6_init_841 : decode cX6_init 841 = .ok (.aload_n 0, 1) := dk_42 (dk_at dksX6_init_35 3 rfl rfl)
theorem dX6_init_842 : decode cX6_init 842 = .ok (.sipush 128, 3) := dk_17 0 128 (dk_at dksX6_init_35 4 rfl rfl)
theorem dX6_init_845 : decode cX6_init 845 = .ok (.newarray .int, 2) := dk_188_10 (dk_at dksX6_init_35 7 rfl rfl)
theorem dX6_init_847 : decode cX6_init 847 = .ok (.putfield 63, 3) := dk_181 0 63 (dk_at dksX6_init_35 9 rfl rfl)
theorem dX6_init_850 : decode cX6_init 850 = .ok (.aload_n 0, 1) := dk_42 (dk_at dksX6_init_35 12 rfl rfl)
theorem dX6_init_851 : decode cX6_init 851 = .ok (.sipush 128, 3) := dk_17 0 128 (dk_at dksX6_init_35 13 rfl rfl)
theorem dX6_init_854 : decode cX6_init 854 = .ok (.newarray .int, 2) := dk_188_10 (dk_at dksX6_init_35 16 rfl rfl)
theorem dX6_init_856 : decode cX6_init 856 = .ok (.putfield 66, 3) := dk_181 0 66 (dk_at dksX6_init_35 18 rfl rfl)
theorem dX6_init_859 : decode cX6_init 859 = .ok (.aload_n 0, 1) := dk_42 (dk_at dksX6_init_35 21 rfl rfl)
theorem dX6_init_860 : decode cX6_init 860 = .ok (.sipush 128, 3) := dk_17 0 128 (dk_at dksX6_init_36 0 rfl rfl)
theorem dX6_init_863 : decode cX6_init 863 = .ok (.newarray .int, 2) := dk_188_10 (dk_at dksX6_init_36 3 rfl rfl)
theorem dX6_init_865 : decode cX6_init 865 = .ok (.putfield 69, 3) := dk_181 0 69 (dk_at dksX6_init_36 5 rfl rfl)
theorem dX6_init_868 : decode cX6_init 868 = .ok (.aload_n 0, 1) := dk_42 (dk_at dksX6_init_36 8 rfl rfl)
theorem dX6_init_869 : decode cX6_init 869 = .ok (.bipush 96, 2) := dk_16 96 (dk_at dksX6_init_36 9 rfl rfl)
theorem dX6_init_871 : decode cX6_init 871 = .ok (.newarray .int, 2) := dk_188_10 (dk_at dksX6_init_36 11 rfl rfl)
theorem dX6_init_873 : decode cX6_init 873 = .ok (.putfield 72, 3) := dk_181 0 72 (dk_at dksX6_init_36 13 rfl rfl)
theorem dX6_init_876 : decode cX6_init 876 = .ok (.aload_n 0, 1) := dk_42 (dk_at dksX6_init_36 16 rfl rfl)
theorem dX6_init_877 : decode cX6_init 877 = .ok (.bipush 96, 2) := dk_16 96 (dk_at dksX6_init_36 17 rfl rfl)
theorem dX6_init_879 : decode cX6_init 879 = .ok (.newarray .int, 2) := dk_188_10 (dk_at dksX6_init_36 19 rfl rfl)
theorem dX6_init_881 : decode cX6_init 881 = .ok (.putfield 75, 3) := dk_181 0 75 (dk_at dksX6_init_36 21 rfl rfl)
theorem dX6_init_884 : decode cX6_init 884 = .ok (.aload_n 0, 1) := dk_42 (dk_at dksX6_init_37 0 rfl rfl)
theorem dX6_init_885 : decode cX6_init 885 = .ok (.bipush 6, 2) := dk_16 6 (dk_at dksX6_init_37 1 rfl rfl)
theorem dX6_init_887 : decode cX6_init 887 = .ok (.newarray .long, 2) := dk_188_11 (dk_at dksX6_init_37 3 rfl rfl)
theorem dX6_init_889 : decode cX6_init 889 = .ok (.putfield 78, 3) := dk_181 0 78 (dk_at dksX6_init_37 5 rfl rfl)
theorem dX6_init_892 : decode cX6_init 892 = .ok (.aload_n 0, 1) := dk_42 (dk_at dksX6_init_37 8 rfl rfl)
theorem dX6_init_893 : decode cX6_init 893 = .ok (.bipush 64, 2) := dk_16 64 (dk_at dksX6_init_37 9 rfl rfl)
theorem dX6_init_895 : decode cX6_init 895 = .ok (.newarray .long, 2) := dk_188_11 (dk_at dksX6_init_37 11 rfl rfl)
theorem dX6_init_897 : decode cX6_init 897 = .ok (.putfield 81, 3) := dk_181 0 81 (dk_at dksX6_init_37 13 rfl rfl)
theorem dX6_init_900 : decode cX6_init 900 = .ok (.aload_n 0, 1) := dk_42 (dk_at dksX6_init_37 16 rfl rfl)
theorem dX6_init_901 : decode cX6_init 901 = .ok (.sipush 128, 3) := dk_17 0 128 (dk_at dksX6_init_37 17 rfl rfl)
theorem dX6_init_904 : decode cX6_init 904 = .ok (.newarray .int, 2) := dk_188_10 (dk_at dksX6_init_37 20 rfl rfl)
theorem dX6_init_906 : decode cX6_init 906 = .ok (.putfield 84, 3) := dk_181 0 84 (dk_at dksX6_init_38 0 rfl rfl)
theorem dX6_init_909 : decode cX6_init 909 = .ok (.aload_n 0, 1) := dk_42 (dk_at dksX6_init_38 3 rfl rfl)
theorem dX6_init_910 : decode cX6_init 910 = .ok (.ldc 87, 2) := dk_18 87 (dk_at dksX6_init_38 4 rfl rfl)
theorem dX6_init_912 : decode cX6_init 912 = .ok (.newarray .boolean, 2) := dk_188_4 (dk_at dksX6_init_38 6 rfl rfl)
theorem dX6_init_914 : decode cX6_init 914 = .ok (.putfield 88, 3) := dk_181 0 88 (dk_at dksX6_init_38 8 rfl rfl)
theorem dX6_init_917 : decode cX6_init 917 = .ok (.aload_n 0, 1) := dk_42 (dk_at dksX6_init_38 11 rfl rfl)
theorem dX6_init_918 : decode cX6_init 918 = .ok (.bipush 12, 2) := dk_16 12 (dk_at dksX6_init_38 12 rfl rfl)
theorem dX6_init_920 : decode cX6_init 920 = .ok (.newarray .int, 2) := dk_188_10 (dk_at dksX6_init_38 14 rfl rfl)
theorem dX6_init_922 : decode cX6_init 922 = .ok (.putfield 92, 3) := dk_181 0 92 (dk_at dksX6_init_38 16 rfl rfl)
theorem dX6_init_925 : decode cX6_init 925 = .ok (.aload_n 0, 1) := dk_42 (dk_at dksX6_init_38 19 rfl rfl)
theorem dX6_init_926 : decode cX6_init 926 = .ok (.bipush 12, 2) := dk_16 12 (dk_at dksX6_init_38 20 rfl rfl)
theorem dX6_init_928 : decode cX6_init 928 = .ok (.newarray .int, 2) := dk_188_10 (dk_at dksX6_init_38 22 rfl rfl)
theorem dX6_init_930 : decode cX6_init 930 = .ok (.putfield 95, 3) := dk_181 0 95 (dk_at dksX6_init_39 0 rfl rfl)
theorem dX6_init_933 : decode cX6_init 933 = .ok (.aload_n 0, 1) := dk_42 (dk_at dksX6_init_39 3 rfl rfl)
theorem dX6_init_934 : decode cX6_init 934 = .ok (.bipush 20, 2) := dk_16 20 (dk_at dksX6_init_39 4 rfl rfl)
theorem dX6_init_936 : decode cX6_init 936 = .ok (.newarray .int, 2) := dk_188_10 (dk_at dksX6_init_39 6 rfl rfl)
theorem dX6_init_938 : decode cX6_init 938 = .ok (.putfield 98, 3) := dk_181 0 98 (dk_at dksX6_init_39 8 rfl rfl)
theorem dX6_init_941 : decode cX6_init 941 = .ok (.aload_n 0, 1) := dk_42 (dk_at dksX6_init_39 11 rfl rfl)
theorem dX6_init_942 : decode cX6_init 942 = .ok (.bipush 20, 2) := dk_16 20 (dk_at dksX6_init_39 12 rfl rfl)
theorem dX6_init_944 : decode cX6_init 944 = .ok (.newarray .int, 2) := dk_188_10 (dk_at dksX6_init_39 14 rfl rfl)
theorem dX6_init_946 : decode cX6_init 946 = .ok (.putfield 101, 3) := dk_181 0 101 (dk_at dksX6_init_39 16 rfl rfl)
theorem dX6_init_949 : decode cX6_init 949 = .ok (.aload_n 0, 1) := dk_42 (dk_at dksX6_init_39 19 rfl rfl)
theorem dX6_init_950 : decode cX6_init 950 = .ok (.sipush 132, 3) := dk_17 0 132 (dk_at dksX6_init_39 20 rfl rfl)
theorem dX6_init_953 : decode cX6_init 953 = .ok (.newarray .int, 2) := dk_188_10 (dk_at dksX6_init_40 0 rfl rfl)
theorem dX6_init_955 : decode cX6_init 955 = .ok (.putfield 104, 3) := dk_181 0 104 (dk_at dksX6_init_40 2 rfl rfl)
theorem dX6_init_958 : decode cX6_init 958 = .ok (.aload_n 0, 1) := dk_42 (dk_at dksX6_init_40 5 rfl rfl)
theorem dX6_init_959 : decode cX6_init 959 = .ok (.bipush 20, 2) := dk_16 20 (dk_at dksX6_init_40 6 rfl rfl)
theorem dX6_init_961 : decode cX6_init 961 = .ok (.newarray .int, 2) := dk_188_10 (dk_at dksX6_init_40 8 rfl rfl)
theorem dX6_init_963 : decode cX6_init 963 = .ok (.putfield 107, 3) := dk_181 0 107 (dk_at dksX6_init_40 10 rfl rfl)
theorem dX6_init_966 : decode cX6_init 966 = .ok (.aload_n 0, 1) := dk_42 (dk_at dksX6_init_40 13 rfl rfl)
theorem dX6_init_967 : decode cX6_init 967 = .ok (.bipush 20, 2) := dk_16 20 (dk_at dksX6_init_40 14 rfl rfl)
theorem dX6_init_969 : decode cX6_init 969 = .ok (.newarray .int, 2) := dk_188_10 (dk_at dksX6_init_40 16 rfl rfl)
theorem dX6_init_971 : decode cX6_init 971 = .ok (.putfield 110, 3) := dk_181 0 110 (dk_at dksX6_init_40 18 rfl rfl)
theorem dX6_init_974 : decode cX6_init 974 = .ok (.aload_n 0, 1) := dk_42 (dk_at dksX6_init_40 21 rfl rfl)
theorem dX6_init_975 : decode cX6_init 975 = .ok (.invokevirtual 113, 3) := dk_182 0 113 (dk_at dksX6_init_41 0 rfl rfl)
theorem dX6_init_978 : decode cX6_init 978 = .ok (.aload_n 0, 1) := dk_42 (dk_at dksX6_init_41 3 rfl rfl)
theorem dX6_init_979 : decode cX6_init 979 = .ok (.invokevirtual 116, 3) := dk_182 0 116 (dk_at dksX6_init_41 4 rfl rfl)
theorem dX6_init_982 : decode cX6_init 982 = .ok (.return_, 1) := dk_177 (dk_at dksX6_init_41 7 rfl rfl)
abbrev cX6_plain : ByteArray := prog_20_method_19_code
def yX6_plain : MethodName := ⟨RX6, "plain", "()V"⟩
def dkwX6_plain_4 : List UInt8 := [42, 180, 0, 20, 16, 12, 17, 5, 181, 79, 42, 180, 0, 20, 16, 13, 7, 79, 177]
abbrev dktX6_plain_4 : List UInt8 := dkwX6_plain_4 ++ []
def dkwX6_plain_3 : List UInt8 := [180, 0, 20, 16, 9, 16, 59, 79, 42, 180, 0, 20, 16, 10, 5, 79, 42, 180, 0, 20, 16, 11, 3, 79]
abbrev dktX6_plain_3 : List UInt8 := dkwX6_plain_3 ++ dktX6_plain_4
def dkwX6_plain_2 : List UInt8 := [3, 181, 0, 214, 42, 180, 0, 20, 16, 7, 16, 7, 79, 42, 180, 0, 20, 16, 8, 3, 79, 42]
abbrev dktX6_plain_2 : List UInt8 := dkwX6_plain_2 ++ dktX6_plain_3
def dkwX6_plain_1 : List UInt8 := [181, 0, 198, 42, 3, 181, 0, 201, 42, 3, 181, 0, 204, 42, 3, 181, 0, 207, 42, 3, 181, 0, 211, 42]
abbrev dktX6_plain_1 : List UInt8 := dkwX6_plain_1 ++ dktX6_plain_2
def dkwX6_plain_0 : List UInt8 := [42, 3, 181, 0, 186, 42, 3, 181, 0, 189, 42, 3, 181, 0, 192, 42, 3, 181, 0, 195, 42, 3]
abbrev dktX6_plain_0 : List UInt8 := dkwX6_plain_0 ++ dktX6_plain_1
theorem dksX6_plain_0 : cX6_plain.data.toList.drop 0 = dktX6_plain_0 := by decide +kernel
theorem dksX6_plain_1 : cX6_plain.data.toList.drop 22 = dktX6_plain_1 := dk_seg dksX6_plain_0 22 rfl rfl
theorem dksX6_plain_2 : cX6_plain.data.toList.drop 46 = dktX6_plain_2 := dk_seg dksX6_plain_1 24 rfl rfl
theorem dksX6_plain_3 : cX6_plain.data.toList.drop 68 = dktX6_plain_3 := dk_seg dksX6_plain_2 22 rfl rfl
theorem dksX6_plain_4 : cX6_plain.data.toList.drop 92 = dktX6_plain_4 := dk_seg dksX6_plain_3 24 rfl rfl
theorem dX6_plain_0 : decode cX6_plain 0 = .ok (.aload_n 0, 1) := dk_42 (dk_at dksX6_plain_0 0 rfl rfl)
theorem dX6_plain_1 : decode cX6_plain 1 = .ok (.iconst 0, 1) := dk_3 (dk_at dksX6_plain_0 1 rfl rfl)
theorem dX6_plain_2 : decode cX6_plain 2 = .ok (.putfield 186, 3) := dk_181 0 186 (dk_at dksX6_plain_0 2 rfl rfl)
theorem dX6_plain_5 : decode cX6_plain 5 = .ok (.aload_n 0, 1) := dk_42 (dk_at dksX6_plain_0 5 rfl rfl)
theorem dX6_plain_6 : decode cX6_plain 6 = .ok (.iconst 0, 1) := dk_3 (dk_at dksX6_plain_0 6 rfl rfl)
theorem dX6_plain_7 : decode cX6_plain 7 = .ok (.putfield 189, 3) := dk_181 0 189 (dk_at dksX6_plain_0 7 rfl rfl)
theorem dX6_plain_10 : decode cX6_plain 10 = .ok (.aload_n 0, 1) := dk_42 (dk_at dksX6_plain_0 10 rfl rfl)
theorem dX6_plain_11 : decode cX6_plain 11 = .ok (.iconst 0, 1) := dk_3 (dk_at dksX6_plain_0 11 rfl rfl)
theorem dX6_plain_12 : decode cX6_plain 12 = .ok (.putfield 192, 3) := dk_181 0 192 (dk_at dksX6_plain_0 12 rfl rfl)
theorem dX6_plain_15 : decode cX6_plain 15 = .ok (.aload_n 0, 1) := dk_42 (dk_at dksX6_plain_0 15 rfl rfl)
theorem dX6_plain_16 : decode cX6_plain 16 = .ok (.iconst 0, 1) := dk_3 (dk_at dksX6_plain_0 16 rfl rfl)
theorem dX6_plain_17 : decode cX6_plain 17 = .ok (.putfield 195, 3) := dk_181 0 195 (dk_at dksX6_plain_0 17 rfl rfl)
theorem dX6_plain_20 : decode cX6_plain 20 = .ok (.aload_n 0, 1) := dk_42 (dk_at dksX6_plain_0 20 rfl rfl)
theorem dX6_plain_21 : decode cX6_plain 21 = .ok (.iconst 0, 1) := dk_3 (dk_at dksX6_plain_0 21 rfl rfl)
theorem dX6_plain_22 : decode cX6_plain 22 = .ok (.putfield 198, 3) := dk_181 0 198 (dk_at dksX6_plain_1 0 rfl rfl)
theorem dX6_plain_25 : decode cX6_plain 25 = .ok (.aload_n 0, 1) := dk_42 (dk_at dksX6_plain_1 3 rfl rfl)
theorem dX6_plain_26 : decode cX6_plain 26 = .ok (.iconst 0, 1) := dk_3 (dk_at dksX6_plain_1 4 rfl rfl)
theorem dX6_plain_27 : decode cX6_plain 27 = .ok (.putfield 201, 3) := dk_181 0 201 (dk_at dksX6_plain_1 5 rfl rfl)
theorem dX6_plain_30 : decode cX6_plain 30 = .ok (.aload_n 0, 1) := dk_42 (dk_at dksX6_plain_1 8 rfl rfl)
theorem dX6_plain_31 : decode cX6_plain 31 = .ok (.iconst 0, 1) := dk_3 (dk_at dksX6_plain_1 9 rfl rfl)
theorem dX6_plain_32 : decode cX6_plain 32 = .ok (.putfield 204, 3) := dk_181 0 204 (dk_at dksX6_plain_1 10 rfl rfl)
theorem dX6_plain_35 : decode cX6_plain 35 = .ok (.aload_n 0, 1) := dk_42 (dk_at dksX6_plain_1 13 rfl rfl)
theorem dX6_plain_36 : decode cX6_plain 36 = .ok (.iconst 0, 1) := dk_3 (dk_at dksX6_plain_1 14 rfl rfl)
theorem dX6_plain_37 : decode cX6_plain 37 = .ok (.putfield 207, 3) := dk_181 0 207 (dk_at dksX6_plain_1 15 rfl rfl)
theorem dX6_plain_40 : decode cX6_plain 40 = .ok (.aload_n 0, 1) := dk_42 (dk_at dksX6_plain_1 18 rfl rfl)
theorem dX6_plain_41 : decode cX6_plain 41 = .ok (.iconst 0, 1) := dk_3 (dk_at dksX6_plain_1 19 rfl rfl)
theorem dX6_plain_42 : decode cX6_plain 42 = .ok (.putfield 211, 3) := dk_181 0 211 (dk_at dksX6_plain_1 20 rfl rfl)
theorem dX6_plain_45 : decode cX6_plain 45 = .ok (.aload_n 0, 1) := dk_42 (dk_at dksX6_plain_1 23 rfl rfl)
theorem dX6_plain_46 : decode cX6_plain 46 = .ok (.iconst 0, 1) := dk_3 (dk_at dksX6_plain_2 0 rfl rfl)
theorem dX6_plain_47 : decode cX6_plain 47 = .ok (.putfield 214, 3) := dk_181 0 214 (dk_at dksX6_plain_2 1 rfl rfl)
theorem dX6_plain_50 : decode cX6_plain 50 = .ok (.aload_n 0, 1) := dk_42 (dk_at dksX6_plain_2 4 rfl rfl)
theorem dX6_plain_51 : decode cX6_plain 51 = .ok (.getfield 20, 3) := dk_180 0 20 (dk_at dksX6_plain_2 5 rfl rfl)
theorem dX6_plain_54 : decode cX6_plain 54 = .ok (.bipush 7, 2) := dk_16 7 (dk_at dksX6_plain_2 8 rfl rfl)
theorem dX6_plain_56 : decode cX6_plain 56 = .ok (.bipush 7, 2) := dk_16 7 (dk_at dksX6_plain_2 10 rfl rfl)
theorem dX6_plain_58 : decode cX6_plain 58 = .ok (.iastore, 1) := dk_79 (dk_at dksX6_plain_2 12 rfl rfl)
theorem dX6_plain_59 : decode cX6_plain 59 = .ok (.aload_n 0, 1) := dk_42 (dk_at dksX6_plain_2 13 rfl rfl)
theorem dX6_plain_60 : decode cX6_plain 60 = .ok (.getfield 20, 3) := dk_180 0 20 (dk_at dksX6_plain_2 14 rfl rfl)
theorem dX6_plain_63 : decode cX6_plain 63 = .ok (.bipush 8, 2) := dk_16 8 (dk_at dksX6_plain_2 17 rfl rfl)
theorem dX6_plain_65 : decode cX6_plain 65 = .ok (.iconst 0, 1) := dk_3 (dk_at dksX6_plain_2 19 rfl rfl)
theorem dX6_plain_66 : decode cX6_plain 66 = .ok (.iastore, 1) := dk_79 (dk_at dksX6_plain_2 20 rfl rfl)
theorem dX6_plain_67 : decode cX6_plain 67 = .ok (.aload_n 0, 1) := dk_42 (dk_at dksX6_plain_2 21 rfl rfl)
theorem dX6_plain_68 : decode cX6_plain 68 = .ok (.getfield 20, 3) := dk_180 0 20 (dk_at dksX6_plain_3 0 rfl rfl)
theorem dX6_plain_71 : decode cX6_plain 71 = .ok (.bipush 9, 2) := dk_16 9 (dk_at dksX6_plain_3 3 rfl rfl)
theorem dX6_plain_73 : decode cX6_plain 73 = .ok (.bipush 59, 2) := dk_16 59 (dk_at dksX6_plain_3 5 rfl rfl)
theorem dX6_plain_75 : decode cX6_plain 75 = .ok (.iastore, 1) := dk_79 (dk_at dksX6_plain_3 7 rfl rfl)
theorem dX6_plain_76 : decode cX6_plain 76 = .ok (.aload_n 0, 1) := dk_42 (dk_at dksX6_plain_3 8 rfl rfl)
theorem dX6_plain_77 : decode cX6_plain 77 = .ok (.getfield 20, 3) := dk_180 0 20 (dk_at dksX6_plain_3 9 rfl rfl)
theorem dX6_plain_80 : decode cX6_plain 80 = .ok (.bipush 10, 2) := dk_16 10 (dk_at dksX6_plain_3 12 rfl rfl)
theorem dX6_plain_82 : decode cX6_plain 82 = .ok (.iconst 2, 1) := dk_5 (dk_at dksX6_plain_3 14 rfl rfl)
theorem dX6_plain_83 : decode cX6_plain 83 = .ok (.iastore, 1) := dk_79 (dk_at dksX6_plain_3 15 rfl rfl)
theorem dX6_plain_84 : decode cX6_plain 84 = .ok (.aload_n 0, 1) := dk_42 (dk_at dksX6_plain_3 16 rfl rfl)
theorem dX6_plain_85 : decode cX6_plain 85 = .ok (.getfield 20, 3) := dk_180 0 20 (dk_at dksX6_plain_3 17 rfl rfl)
theorem dX6_plain_88 : decode cX6_plain 88 = .ok (.bipush 11, 2) := dk_16 11 (dk_at dksX6_plain_3 20 rfl rfl)
theorem dX6_plain_90 : decode cX6_plain 90 = .ok (.iconst 0, 1) := dk_3 (dk_at dksX6_plain_3 22 rfl rfl)
theorem dX6_plain_91 : decode cX6_plain 91 = .ok (.iastore, 1) := dk_79 (dk_at dksX6_plain_3 23 rfl rfl)
theorem dX6_plain_92 : decode cX6_plain 92 = .ok (.aload_n 0, 1) := dk_42 (dk_at dksX6_plain_4 0 rfl rfl)
theorem dX6_plain_93 : decode cX6_plain 93 = .ok (.getfield 20, 3) := dk_180 0 20 (dk_at dksX6_plain_4 1 rfl rfl)
theorem dX6_plain_96 : decode cX6_plain 96 = .ok (.bipush 12, 2) := dk_16 12 (dk_at dksX6_plain_4 4 rfl rfl)
theorem dX6_plain_98 : decode cX6_plain 98 = .ok (.sipush 1461, 3) := dk_17 5 181 (dk_at dksX6_plain_4 6 rfl rfl)
theorem dX6_plain_101 : decode cX6_plain 101 = .ok (.iastore, 1) := dk_79 (dk_at dksX6_plain_4 9 rfl rfl)
theorem dX6_plain_102 : decode cX6_plain 102 = .ok (.aload_n 0, 1) := dk_42 (dk_at dksX6_plain_4 10 rfl rfl)
theorem dX6_plain_103 : decode cX6_plain 103 = .ok (.getfield 20, 3) := dk_180 0 20 (dk_at dksX6_plain_4 11 rfl rfl)
theorem dX6_plain_106 : decode cX6_plain 106 = .ok (.bipush 13, 2) := dk_16 13 (dk_at dksX6_plain_4 14 rfl rfl)
theorem dX6_plain_108 : decode cX6_plain 108 = .ok (.iconst 4, 1) := dk_7 (dk_at dksX6_plain_4 16 rfl rfl)
theorem dX6_plain_109 : decode cX6_plain 109 = .ok (.iastore, 1) := dk_79 (dk_at dksX6_plain_4 17 rfl rfl)
theorem dX6_plain_110 : decode cX6_plain 110 = .ok (.return_, 1) := dk_177 (dk_at dksX6_plain_4 18 rfl rfl)
abbrev cX6_keepText : ByteArray := prog_20_method_22_code
def yX6_keepText : MethodName := ⟨RX6, "keepText", "()V"⟩
def dkwX6_keepText_9 : List UInt8 := [181, 0, 249, 42, 3, 181, 0, 252, 177]
abbrev dktX6_keepText_9 : List UInt8 := dkwX6_keepText_9 ++ []
def dkwX6_keepText_8 : List UInt8 := [42, 180, 0, 69, 16, 64, 184, 0, 235, 42, 42, 180, 0, 229, 181, 0, 243, 42, 3, 181, 0, 246, 42, 3]
abbrev dktX6_keepText_8 : List UInt8 := dkwX6_keepText_8 ++ dktX6_keepText_9
def dkwX6_keepText_7 : List UInt8 := [17, 0, 132, 184, 0, 235, 42, 180, 0, 63, 16, 64, 184, 0, 235, 42, 180, 0, 66, 16, 64, 184, 0, 235]
abbrev dktX6_keepText_7 : List UInt8 := dkwX6_keepText_7 ++ dktX6_keepText_8
def dkwX6_keepText_6 : List UInt8 := [42, 180, 0, 54, 16, 12, 184, 0, 235, 42, 180, 0, 57, 16, 6, 184, 0, 235, 42, 180, 0, 60]
abbrev dktX6_keepText_6 : List UInt8 := dkwX6_keepText_6 ++ dktX6_keepText_7
def dkwX6_keepText_5 : List UInt8 := [180, 0, 45, 16, 6, 184, 0, 239, 42, 180, 0, 48, 7, 184, 0, 235, 42, 180, 0, 51, 7, 184, 0, 239]
abbrev dktX6_keepText_5 : List UInt8 := dkwX6_keepText_5 ++ dktX6_keepText_6
def dkwX6_keepText_4 : List UInt8 := [184, 0, 235, 42, 180, 0, 38, 16, 6, 184, 0, 235, 42, 180, 0, 41, 16, 6, 184, 0, 239, 42]
abbrev dktX6_keepText_4 : List UInt8 := dkwX6_keepText_4 ++ dktX6_keepText_5
def dkwX6_keepText_3 : List UInt8 := [184, 0, 235, 42, 180, 0, 29, 7, 184, 0, 235, 42, 180, 0, 32, 7, 184, 0, 235, 42, 180, 0, 35, 7]
abbrev dktX6_keepText_3 : List UInt8 := dkwX6_keepText_3 ++ dktX6_keepText_4
def dkwX6_keepText_2 : List UInt8 := [42, 180, 0, 20, 16, 7, 184, 0, 235, 42, 180, 0, 23, 7, 184, 0, 235, 42, 180, 0, 26, 16, 12]
abbrev dktX6_keepText_2 : List UInt8 := dkwX6_keepText_2 ++ dktX6_keepText_3
def dkwX6_keepText_1 : List UInt8 := [42, 42, 180, 0, 195, 181, 0, 226, 42, 42, 180, 0, 198, 181, 0, 229, 42, 42, 180, 0, 201, 181, 0, 232]
abbrev dktX6_keepText_1 : List UInt8 := dkwX6_keepText_1 ++ dktX6_keepText_2
def dkwX6_keepText_0 : List UInt8 := [42, 42, 180, 0, 186, 181, 0, 217, 42, 42, 180, 0, 189, 181, 0, 220, 42, 42, 180, 0, 192, 181, 0, 223]
abbrev dktX6_keepText_0 : List UInt8 := dkwX6_keepText_0 ++ dktX6_keepText_1
theorem dksX6_keepText_0 : cX6_keepText.data.toList.drop 0 = dktX6_keepText_0 := by decide +kernel
theorem dksX6_keepText_1 : cX6_keepText.data.toList.drop 24 = dktX6_keepText_1 := dk_seg dksX6_keepText_0 24 rfl rfl
theorem dksX6_keepText_2 : cX6_keepText.data.toList.drop 48 = dktX6_keepText_2 := dk_seg dksX6_keepText_1 24 rfl rfl
theorem dksX6_keepText_3 : cX6_keepText.data.toList.drop 71 = dktX6_keepText_3 := dk_seg dksX6_keepText_2 23 rfl rfl
theorem dksX6_keepText_4 : cX6_keepText.data.toList.drop 95 = dktX6_keepText_4 := dk_seg dksX6_keepText_3 24 rfl rfl
theorem dksX6_keepText_5 : cX6_keepText.data.toList.drop 117 = dktX6_keepText_5 := dk_seg dksX6_keepText_4 22 rfl rfl
theorem dksX6_keepText_6 : cX6_keepText.data.toList.drop 141 = dktX6_keepText_6 := dk_seg dksX6_keepText_5 24 rfl rfl
theorem dksX6_keepText_7 : cX6_keepText.data.toList.drop 163 = dktX6_keepText_7 := dk_seg dksX6_keepText_6 22 rfl rfl
theorem dksX6_keepText_8 : cX6_keepText.data.toList.drop 187 = dktX6_keepText_8 := dk_seg dksX6_keepText_7 24 rfl rfl
theorem dksX6_keepText_9 : cX6_keepText.data.toList.drop 211 = dktX6_keepText_9 := dk_seg dksX6_keepText_8 24 rfl rfl
theorem dX6_keepText_0 : decode cX6_keepText 0 = .ok (.aload_n 0, 1) := dk_42 (dk_at dksX6_keepText_0 0 rfl rfl)
theorem dX6_keepText_1 : decode cX6_keepText 1 = .ok (.aload_n 0, 1) := dk_42 (dk_at dksX6_keepText_0 1 rfl rfl)
theorem dX6_keepText_2 : decode cX6_keepText 2 = .ok (.getfield 186, 3) := dk_180 0 186 (dk_at dksX6_keepText_0 2 rfl rfl)
theorem dX6_keepText_5 : decode cX6_keepText 5 = .ok (.putfield 217, 3) := dk_181 0 217 (dk_at dksX6_keepText_0 5 rfl rfl)
theorem dX6_keepText_8 : decode cX6_keepText 8 = .ok (.aload_n 0, 1) := dk_42 (dk_at dksX6_keepText_0 8 rfl rfl)
theorem dX6_keepText_9 : decode cX6_keepText 9 = .ok (.aload_n 0, 1) := dk_42 (dk_at dksX6_keepText_0 9 rfl rfl)
theorem dX6_keepText_10 : decode cX6_keepText 10 = .ok (.getfield 189, 3) := dk_180 0 189 (dk_at dksX6_keepText_0 10 rfl rfl)
theorem dX6_keepText_13 : decode cX6_keepText 13 = .ok (.putfield 220, 3) := dk_181 0 220 (dk_at dksX6_keepText_0 13 rfl rfl)
theorem dX6_keepText_16 : decode cX6_keepText 16 = .ok (.aload_n 0, 1) := dk_42 (dk_at dksX6_keepText_0 16 rfl rfl)
theorem dX6_keepText_17 : decode cX6_keepText 17 = .ok (.aload_n 0, 1) := dk_42 (dk_at dksX6_keepText_0 17 rfl rfl)
theorem dX6_keepText_18 : decode cX6_keepText 18 = .ok (.getfield 192, 3) := dk_180 0 192 (dk_at dksX6_keepText_0 18 rfl rfl)
theorem dX6_keepText_21 : decode cX6_keepText 21 = .ok (.putfield 223, 3) := dk_181 0 223 (dk_at dksX6_keepText_0 21 rfl rfl)
theorem dX6_keepText_24 : decode cX6_keepText 24 = .ok (.aload_n 0, 1) := dk_42 (dk_at dksX6_keepText_1 0 rfl rfl)
theorem dX6_keepText_25 : decode cX6_keepText 25 = .ok (.aload_n 0, 1) := dk_42 (dk_at dksX6_keepText_1 1 rfl rfl)
theorem dX6_keepText_26 : decode cX6_keepText 26 = .ok (.getfield 195, 3) := dk_180 0 195 (dk_at dksX6_keepText_1 2 rfl rfl)
theorem dX6_keepText_29 : decode cX6_keepText 29 = .ok (.putfield 226, 3) := dk_181 0 226 (dk_at dksX6_keepText_1 5 rfl rfl)
theorem dX6_keepText_32 : decode cX6_keepText 32 = .ok (.aload_n 0, 1) := dk_42 (dk_at dksX6_keepText_1 8 rfl rfl)
theorem dX6_keepText_33 : decode cX6_keepText 33 = .ok (.aload_n 0, 1) := dk_42 (dk_at dksX6_keepText_1 9 rfl rfl)
theorem dX6_keepText_34 : decode cX6_keepText 34 = .ok (.getfield 198, 3) := dk_180 0 198 (dk_at dksX6_keepText_1 10 rfl rfl)
theorem dX6_keepText_37 : decode cX6_keepText 37 = .ok (.putfield 229, 3) := dk_181 0 229 (dk_at dksX6_keepText_1 13 rfl rfl)
theorem dX6_keepText_40 : decode cX6_keepText 40 = .ok (.aload_n 0, 1) := dk_42 (dk_at dksX6_keepText_1 16 rfl rfl)
theorem dX6_keepText_41 : decode cX6_keepText 41 = .ok (.aload_n 0, 1) := dk_42 (dk_at dksX6_keepText_1 17 rfl rfl)
theorem dX6_keepText_42 : decode cX6_keepText 42 = .ok (.getfield 201, 3) := dk_180 0 201 (dk_at dksX6_keepText_1 18 rfl rfl)
theorem dX6_keepText_45 : decode cX6_keepText 45 = .ok (.putfield 232, 3) := dk_181 0 232 (dk_at dksX6_keepText_1 21 rfl rfl)
theorem dX6_keepText_48 : decode cX6_keepText 48 = .ok (.aload_n 0, 1) := dk_42 (dk_at dksX6_keepText_2 0 rfl rfl)
theorem dX6_keepText_49 : decode cX6_keepText 49 = .ok (.getfield 20, 3) := dk_180 0 20 (dk_at dksX6_keepText_2 1 rfl rfl)
theorem dX6_keepText_52 : decode cX6_keepText 52 = .ok (.bipush 7, 2) := dk_16 7 (dk_at dksX6_keepText_2 4 rfl rfl)
theorem dX6_keepText_54 : decode cX6_keepText 54 = .ok (.invokestatic 235, 3) := dk_184 0 235 (dk_at dksX6_keepText_2 6 rfl rfl)
theorem dX6_keepText_57 : decode cX6_keepText 57 = .ok (.aload_n 0, 1) := dk_42 (dk_at dksX6_keepText_2 9 rfl rfl)
theorem dX6_keepText_58 : decode cX6_keepText 58 = .ok (.getfield 23, 3) := dk_180 0 23 (dk_at dksX6_keepText_2 10 rfl rfl)
theorem dX6_keepText_61 : decode cX6_keepText 61 = .ok (.iconst 4, 1) := dk_7 (dk_at dksX6_keepText_2 13 rfl rfl)
theorem dX6_keepText_62 : decode cX6_keepText 62 = .ok (.invokestatic 235, 3) := dk_184 0 235 (dk_at dksX6_keepText_2 14 rfl rfl)
theorem dX6_keepText_65 : decode cX6_keepText 65 = .ok (.aload_n 0, 1) := dk_42 (dk_at dksX6_keepText_2 17 rfl rfl)
theorem dX6_keepText_66 : decode cX6_keepText 66 = .ok (.getfield 26, 3) := dk_180 0 26 (dk_at dksX6_keepText_2 18 rfl rfl)
theorem dX6_keepText_69 : decode cX6_keepText 69 = .ok (.bipush 12, 2) := dk_16 12 (dk_at dksX6_keepText_2 21 rfl rfl)
theorem dX6_keepText_71 : decode cX6_keepText 71 = .ok (.invokestatic 235, 3) := dk_184 0 235 (dk_at dksX6_keepText_3 0 rfl rfl)
theorem dX6_keepText_74 : decode cX6_keepText 74 = .ok (.aload_n 0, 1) := dk_42 (dk_at dksX6_keepText_3 3 rfl rfl)
theorem dX6_keepText_75 : decode cX6_keepText 75 = .ok (.getfield 29, 3) := dk_180 0 29 (dk_at dksX6_keepText_3 4 rfl rfl)
theorem dX6_keepText_78 : decode cX6_keepText 78 = .ok (.iconst 4, 1) := dk_7 (dk_at dksX6_keepText_3 7 rfl rfl)
theorem dX6_keepText_79 : decode cX6_keepText 79 = .ok (.invokestatic 235, 3) := dk_184 0 235 (dk_at dksX6_keepText_3 8 rfl rfl)
theorem dX6_keepText_82 : decode cX6_keepText 82 = .ok (.aload_n 0, 1) := dk_42 (dk_at dksX6_keepText_3 11 rfl rfl)
theorem dX6_keepText_83 : decode cX6_keepText 83 = .ok (.getfield 32, 3) := dk_180 0 32 (dk_at dksX6_keepText_3 12 rfl rfl)
theorem dX6_keepText_86 : decode cX6_keepText 86 = .ok (.iconst 4, 1) := dk_7 (dk_at dksX6_keepText_3 15 rfl rfl)
theorem dX6_keepText_87 : decode cX6_keepText 87 = .ok (.invokestatic 235, 3) := dk_184 0 235 (dk_at dksX6_keepText_3 16 rfl rfl)
theorem dX6_keepText_90 : decode cX6_keepText 90 = .ok (.aload_n 0, 1) := dk_42 (dk_at dksX6_keepText_3 19 rfl rfl)
theorem dX6_keepText_91 : decode cX6_keepText 91 = .ok (.getfield 35, 3) := dk_180 0 35 (dk_at dksX6_keepText_3 20 rfl rfl)
theorem dX6_keepText_94 : decode cX6_keepText 94 = .ok (.iconst 4, 1) := dk_7 (dk_at dksX6_keepText_3 23 rfl rfl)
theorem dX6_keepText_95 : decode cX6_keepText 95 = .ok (.invokestatic 235, 3) := dk_184 0 235 (dk_at dksX6_keepText_4 0 rfl rfl)
theorem dX6_keepText_98 : decode cX6_keepText 98 = .ok (.aload_n 0, 1) := dk_42 (dk_at dksX6_keepText_4 3 rfl rfl)
theorem dX6_keepText_99 : decode cX6_keepText 99 = .ok (.getfield 38, 3) := dk_180 0 38 (dk_at dksX6_keepText_4 4 rfl rfl)
theorem dX6_keepText_102 : decode cX6_keepText 102 = .ok (.bipush 6, 2) := dk_16 6 (dk_at dksX6_keepText_4 7 rfl rfl)
theorem dX6_keepText_104 : decode cX6_keepText 104 = .ok (.invokestatic 235, 3) := dk_184 0 235 (dk_at dksX6_keepText_4 9 rfl rfl)
theorem dX6_keepText_107 : decode cX6_keepText 107 = .ok (.aload_n 0, 1) := dk_42 (dk_at dksX6_keepText_4 12 rfl rfl)
theorem dX6_keepText_108 : decode cX6_keepText 108 = .ok (.getfield 41, 3) := dk_180 0 41 (dk_at dksX6_keepText_4 13 rfl rfl)
theorem dX6_keepText_111 : decode cX6_keepText 111 = .ok (.bipush 6, 2) := dk_16 6 (dk_at dksX6_keepText_4 16 rfl rfl)
theorem dX6_keepText_113 : decode cX6_keepText 113 = .ok (.invokestatic 239, 3) := dk_184 0 239 (dk_at dksX6_keepText_4 18 rfl rfl)
theorem dX6_keepText_116 : decode cX6_keepText 116 = .ok (.aload_n 0, 1) := dk_42 (dk_at dksX6_keepText_4 21 rfl rfl)
theorem dX6_keepText_117 : decode cX6_keepText 117 = .ok (.getfield 45, 3) := dk_180 0 45 (dk_at dksX6_keepText_5 0 rfl rfl)
theorem dX6_keepText_120 : decode cX6_keepText 120 = .ok (.bipush 6, 2) := dk_16 6 (dk_at dksX6_keepText_5 3 rfl rfl)
theorem dX6_keepText_122 : decode cX6_keepText 122 = .ok (.invokestatic 239, 3) := dk_184 0 239 (dk_at dksX6_keepText_5 5 rfl rfl)
theorem dX6_keepText_125 : decode cX6_keepText 125 = .ok (.aload_n 0, 1) := dk_42 (dk_at dksX6_keepText_5 8 rfl rfl)
theorem dX6_keepText_126 : decode cX6_keepText 126 = .ok (.getfield 48, 3) := dk_180 0 48 (dk_at dksX6_keepText_5 9 rfl rfl)
theorem dX6_keepText_129 : decode cX6_keepText 129 = .ok (.iconst 4, 1) := dk_7 (dk_at dksX6_keepText_5 12 rfl rfl)
theorem dX6_keepText_130 : decode cX6_keepText 130 = .ok (.invokestatic 235, 3) := dk_184 0 235 (dk_at dksX6_keepText_5 13 rfl rfl)
theorem dX6_keepText_133 : decode cX6_keepText 133 = .ok (.aload_n 0, 1) := dk_42 (dk_at dksX6_keepText_5 16 rfl rfl)
theorem dX6_keepText_134 : decode cX6_keepText 134 = .ok (.getfield 51, 3) := dk_180 0 51 (dk_at dksX6_keepText_5 17 rfl rfl)
theorem dX6_keepText_137 : decode cX6_keepText 137 = .ok (.iconst 4, 1) := dk_7 (dk_at dksX6_keepText_5 20 rfl rfl)
theorem dX6_keepText_138 : decode cX6_keepText 138 = .ok (.invokestatic 239, 3) := dk_184 0 239 (dk_at dksX6_keepText_5 21 rfl rfl)
theorem dX6_keepText_141 : decode cX6_keepText 141 = .ok (.aload_n 0, 1) := dk_42 (dk_at dksX6_keepText_6 0 rfl rfl)
theorem dX6_keepText_142 : decode cX6_keepText 142 = .ok (.getfield 54, 3) := dk_180 0 54 (dk_at dksX6_keepText_6 1 rfl rfl)
theorem dX6_keepText_145 : decode cX6_keepText 145 = .ok (.bipush 12, 2) := dk_16 12 (dk_at dksX6_keepText_6 4 rfl rfl)
theorem dX6_keepText_147 : decode cX6_keepText 147 = .ok (.invokestatic 235, 3) := dk_184 0 235 (dk_at dksX6_keepText_6 6 rfl rfl)
theorem dX6_keepText_150 : decode cX6_keepText 150 = .ok (.aload_n 0, 1) := dk_42 (dk_at dksX6_keepText_6 9 rfl rfl)
theorem dX6_keepText_151 : decode cX6_keepText 151 = .ok (.getfield 57, 3) := dk_180 0 57 (dk_at dksX6_keepText_6 10 rfl rfl)
theorem dX6_keepText_154 : decode cX6_keepText 154 = .ok (.bipush 6, 2) := dk_16 6 (dk_at dksX6_keepText_6 13 rfl rfl)
theorem dX6_keepText_156 : decode cX6_keepText 156 = .ok (.invokestatic 235, 3) := dk_184 0 235 (dk_at dksX6_keepText_6 15 rfl rfl)
theorem dX6_keepText_159 : decode cX6_keepText 159 = .ok (.aload_n 0, 1) := dk_42 (dk_at dksX6_keepText_6 18 rfl rfl)
theorem dX6_keepText_160 : decode cX6_keepText 160 = .ok (.getfield 60, 3) := dk_180 0 60 (dk_at dksX6_keepText_6 19 rfl rfl)
theorem dX6_keepText_163 : decode cX6_keepText 163 = .ok (.sipush 132, 3) := dk_17 0 132 (dk_at dksX6_keepText_7 0 rfl rfl)
theorem dX6_keepText_166 : decode cX6_keepText 166 = .ok (.invokestatic 235, 3) := dk_184 0 235 (dk_at dksX6_keepText_7 3 rfl rfl)
theorem dX6_keepText_169 : decode cX6_keepText 169 = .ok (.aload_n 0, 1) := dk_42 (dk_at dksX6_keepText_7 6 rfl rfl)
theorem dX6_keepText_170 : decode cX6_keepText 170 = .ok (.getfield 63, 3) := dk_180 0 63 (dk_at dksX6_keepText_7 7 rfl rfl)
theorem dX6_keepText_173 : decode cX6_keepText 173 = .ok (.bipush 64, 2) := dk_16 64 (dk_at dksX6_keepText_7 10 rfl rfl)
theorem dX6_keepText_175 : decode cX6_keepText 175 = .ok (.invokestatic 235, 3) := dk_184 0 235 (dk_at dksX6_keepText_7 12 rfl rfl)
theorem dX6_keepText_178 : decode cX6_keepText 178 = .ok (.aload_n 0, 1) := dk_42 (dk_at dksX6_keepText_7 15 rfl rfl)
theorem dX6_keepText_179 : decode cX6_keepText 179 = .ok (.getfield 66, 3) := dk_180 0 66 (dk_at dksX6_keepText_7 16 rfl rfl)
theorem dX6_keepText_182 : decode cX6_keepText 182 = .ok (.bipush 64, 2) := dk_16 64 (dk_at dksX6_keepText_7 19 rfl rfl)
theorem dX6_keepText_184 : decode cX6_keepText 184 = .ok (.invokestatic 235, 3) := dk_184 0 235 (dk_at dksX6_keepText_7 21 rfl rfl)
theorem dX6_keepText_187 : decode cX6_keepText 187 = .ok (.aload_n 0, 1) := dk_42 (dk_at dksX6_keepText_8 0 rfl rfl)
theorem dX6_keepText_188 : decode cX6_keepText 188 = .ok (.getfield 69, 3) := dk_180 0 69 (dk_at dksX6_keepText_8 1 rfl rfl)
theorem dX6_keepText_191 : decode cX6_keepText 191 = .ok (.bipush 64, 2) := dk_16 64 (dk_at dksX6_keepText_8 4 rfl rfl)
theorem dX6_keepText_193 : decode cX6_keepText 193 = .ok (.invokestatic 235, 3) := dk_184 0 235 (dk_at dksX6_keepText_8 6 rfl rfl)
theorem dX6_keepText_196 : decode cX6_keepText 196 = .ok (.aload_n 0, 1) := dk_42 (dk_at dksX6_keepText_8 9 rfl rfl)
theorem dX6_keepText_197 : decode cX6_keepText 197 = .ok (.aload_n 0, 1) := dk_42 (dk_at dksX6_keepText_8 10 rfl rfl)
theorem dX6_keepText_198 : decode cX6_keepText 198 = .ok (.getfield 229, 3) := dk_180 0 229 (dk_at dksX6_keepText_8 11 rfl rfl)
theorem dX6_keepText_201 : decode cX6_keepText 201 = .ok (.putfield 243, 3) := dk_181 0 243 (dk_at dksX6_keepText_8 14 rfl rfl)
theorem dX6_keepText_204 : decode cX6_keepText 204 = .ok (.aload_n 0, 1) := dk_42 (dk_at dksX6_keepText_8 17 rfl rfl)
theorem dX6_keepText_205 : decode cX6_keepText 205 = .ok (.iconst 0, 1) := dk_3 (dk_at dksX6_keepText_8 18 rfl rfl)
theorem dX6_keepText_206 : decode cX6_keepText 206 = .ok (.putfield 246, 3) := dk_181 0 246 (dk_at dksX6_keepText_8 19 rfl rfl)
theorem dX6_keepText_209 : decode cX6_keepText 209 = .ok (.aload_n 0, 1) := dk_42 (dk_at dksX6_keepText_8 22 rfl rfl)
theorem dX6_keepText_210 : decode cX6_keepText 210 = .ok (.iconst 0, 1) := dk_3 (dk_at dksX6_keepText_8 23 rfl rfl)
theorem dX6_keepText_211 : decode cX6_keepText 211 = .ok (.putfield 249, 3) := dk_181 0 249 (dk_at dksX6_keepText_9 0 rfl rfl)
theorem dX6_keepText_214 : decode cX6_keepText 214 = .ok (.aload_n 0, 1) := dk_42 (dk_at dksX6_keepText_9 3 rfl rfl)
theorem dX6_keepText_215 : decode cX6_keepText 215 = .ok (.iconst 0, 1) := dk_3 (dk_at dksX6_keepText_9 4 rfl rfl)
theorem dX6_keepText_216 : decode cX6_keepText 216 = .ok (.putfield 252, 3) := dk_181 0 252 (dk_at dksX6_keepText_9 5 rfl rfl)
theorem dX6_keepText_219 : decode cX6_keepText 219 = .ok (.return_, 1) := dk_177 (dk_at dksX6_keepText_9 8 rfl rfl)
abbrev cX6_copies : ByteArray := prog_20_method_20_code
def yX6_copies : MethodName := ⟨RX6, "copies", "([II)V"⟩
def dkwX6_copies_0 : List UInt8 := [3, 61, 28, 27, 162, 0, 17, 42, 28, 42, 27, 28, 96, 46, 79, 132, 2, 1, 167, 255, 240, 177]
abbrev dktX6_copies_0 : List UInt8 := dkwX6_copies_0 ++ []
theorem dksX6_copies_0 : cX6_copies.data.toList.drop 0 = dktX6_copies_0 := by decide +kernel
theorem dX6_copies_0 : decode cX6_copies 0 = .ok (.iconst 0, 1) := dk_3 (dk_at dksX6_copies_0 0 rfl rfl)
theorem dX6_copies_1 : decode cX6_copies 1 = .ok (.istore_n 2, 1) := dk_61 (dk_at dksX6_copies_0 1 rfl rfl)
theorem dX6_copies_2 : decode cX6_copies 2 = .ok (.iload_n 2, 1) := dk_28 (dk_at dksX6_copies_0 2 rfl rfl)
theorem dX6_copies_3 : decode cX6_copies 3 = .ok (.iload_n 1, 1) := dk_27 (dk_at dksX6_copies_0 3 rfl rfl)
theorem dX6_copies_4 : decode cX6_copies 4 = .ok (.if_icmp .ge 17, 3) := dk_162 0 17 (dk_at dksX6_copies_0 4 rfl rfl)
theorem dX6_copies_7 : decode cX6_copies 7 = .ok (.aload_n 0, 1) := dk_42 (dk_at dksX6_copies_0 7 rfl rfl)
theorem dX6_copies_8 : decode cX6_copies 8 = .ok (.iload_n 2, 1) := dk_28 (dk_at dksX6_copies_0 8 rfl rfl)
theorem dX6_copies_9 : decode cX6_copies 9 = .ok (.aload_n 0, 1) := dk_42 (dk_at dksX6_copies_0 9 rfl rfl)
theorem dX6_copies_10 : decode cX6_copies 10 = .ok (.iload_n 1, 1) := dk_27 (dk_at dksX6_copies_0 10 rfl rfl)
theorem dX6_copies_11 : decode cX6_copies 11 = .ok (.iload_n 2, 1) := dk_28 (dk_at dksX6_copies_0 11 rfl rfl)
theorem dX6_copies_12 : decode cX6_copies 12 = .ok (.iadd, 1) := dk_96 (dk_at dksX6_copies_0 12 rfl rfl)
theorem dX6_copies_13 : decode cX6_copies 13 = .ok (.iaload, 1) := dk_46 (dk_at dksX6_copies_0 13 rfl rfl)
theorem dX6_copies_14 : decode cX6_copies 14 = .ok (.iastore, 1) := dk_79 (dk_at dksX6_copies_0 14 rfl rfl)
theorem dX6_copies_15 : decode cX6_copies 15 = .ok (.iinc 2 1, 3) := dk_132 2 1 (dk_at dksX6_copies_0 15 rfl rfl)
theorem dX6_copies_18 : decode cX6_copies 18 = .ok (.goto (-16), 3) := dk_167 255 240 (dk_at dksX6_copies_0 18 rfl rfl)
theorem dX6_copies_21 : decode cX6_copies 21 = .ok (.return_, 1) := dk_177 (dk_at dksX6_copies_0 21 rfl rfl)
abbrev cX6_copiesLong : ByteArray := prog_20_method_21_code
def yX6_copiesLong : MethodName := ⟨RX6, "copiesLong", "([JI)V"⟩
def dkwX6_copiesLong_0 : List UInt8 := [3, 61, 28, 27, 162, 0, 17, 42, 28, 42, 27, 28, 96, 47, 80, 132, 2, 1, 167, 255, 240, 177]
abbrev dktX6_copiesLong_0 : List UInt8 := dkwX6_copiesLong_0 ++ []
theorem dksX6_copiesLong_0 : cX6_copiesLong.data.toList.drop 0 = dktX6_copiesLong_0 := by decide +kernel
theorem dX6_copiesLong_0 : decode cX6_copiesLong 0 = .ok (.iconst 0, 1) := dk_3 (dk_at dksX6_copiesLong_0 0 rfl rfl)
theorem dX6_copiesLong_1 : decode cX6_copiesLong 1 = .ok (.istore_n 2, 1) := dk_61 (dk_at dksX6_copiesLong_0 1 rfl rfl)
theorem dX6_copiesLong_2 : decode cX6_copiesLong 2 = .ok (.iload_n 2, 1) := dk_28 (dk_at dksX6_copiesLong_0 2 rfl rfl)
theorem dX6_copiesLong_3 : decode cX6_copiesLong 3 = .ok (.iload_n 1, 1) := dk_27 (dk_at dksX6_copiesLong_0 3 rfl rfl)
theorem dX6_copiesLong_4 : decode cX6_copiesLong 4 = .ok (.if_icmp .ge 17, 3) := dk_162 0 17 (dk_at dksX6_copiesLong_0 4 rfl rfl)
theorem dX6_copiesLong_7 : decode cX6_copiesLong 7 = .ok (.aload_n 0, 1) := dk_42 (dk_at dksX6_copiesLong_0 7 rfl rfl)
theorem dX6_copiesLong_8 : decode cX6_copiesLong 8 = .ok (.iload_n 2, 1) := dk_28 (dk_at dksX6_copiesLong_0 8 rfl rfl)
theorem dX6_copiesLong_9 : decode cX6_copiesLong 9 = .ok (.aload_n 0, 1) := dk_42 (dk_at dksX6_copiesLong_0 9 rfl rfl)
theorem dX6_copiesLong_10 : decode cX6_copiesLong 10 = .ok (.iload_n 1, 1) := dk_27 (dk_at dksX6_copiesLong_0 10 rfl rfl)
theorem dX6_copiesLong_11 : decode cX6_copiesLong 11 = .ok (.iload_n 2, 1) := dk_28 (dk_at dksX6_copiesLong_0 11 rfl rfl)
theorem dX6_copiesLong_12 : decode cX6_copiesLong 12 = .ok (.iadd, 1) := dk_96 (dk_at dksX6_copiesLong_0 12 rfl rfl)
theorem dX6_copiesLong_13 : decode cX6_copiesLong 13 = .ok (.laload, 1) := dk_47 (dk_at dksX6_copiesLong_0 13 rfl rfl)
theorem dX6_copiesLong_14 : decode cX6_copiesLong 14 = .ok (.lastore, 1) := dk_80 (dk_at dksX6_copiesLong_0 14 rfl rfl)
theorem dX6_copiesLong_15 : decode cX6_copiesLong 15 = .ok (.iinc 2 1, 3) := dk_132 2 1 (dk_at dksX6_copiesLong_0 15 rfl rfl)
theorem dX6_copiesLong_18 : decode cX6_copiesLong 18 = .ok (.goto (-16), 3) := dk_167 255 240 (dk_at dksX6_copiesLong_0 18 rfl rfl)
theorem dX6_copiesLong_21 : decode cX6_copiesLong 21 = .ok (.return_, 1) := dk_177 (dk_at dksX6_copiesLong_0 21 rfl rfl)
abbrev cX6_thrown : ByteArray := prog_20_method_2_code
def yX6_thrown : MethodName := ⟨RX6, "thrown", "()I"⟩
theorem dX6_thrown_0 : decode cX6_thrown 0 = .ok (.aload_n 0, 1) := by decide +kernel
theorem dX6_thrown_1 : decode cX6_thrown 1 = .ok (.getfield 119, 3) := by decide +kernel
theorem dX6_thrown_4 : decode cX6_thrown 4 = .ok (.ireturn, 1) := by decide +kernel
abbrev cX6_feed : ByteArray := prog_20_method_3_code
def yX6_feed : MethodName := ⟨RX6, "feed", "(IIIII)I"⟩
def dkwX6_feed_5 : List UInt8 := [16, 20, 96, 181, 0, 122, 42, 180, 0, 122, 172]
abbrev dktX6_feed_5 : List UInt8 := dkwX6_feed_5 ++ []
def dkwX6_feed_4 : List UInt8 := [21, 6, 7, 112, 104, 100, 122, 17, 0, 255, 126, 79, 132, 6, 1, 167, 255, 169, 42, 89, 180, 0, 122]
abbrev dktX6_feed_4 : List UInt8 := dkwX6_feed_4 ++ dktX6_feed_5
def dkwX6_feed_3 : List UInt8 := [167, 0, 5, 21, 5, 54, 7, 42, 180, 0, 7, 42, 180, 0, 122, 21, 6, 96, 21, 7, 16, 24, 16, 8]
abbrev dktX6_feed_3 : List UInt8 := dkwX6_feed_3 ++ dktX6_feed_4
def dkwX6_feed_2 : List UInt8 := [28, 167, 0, 28, 21, 6, 16, 12, 162, 0, 7, 29, 167, 0, 17, 21, 6, 16, 16, 162, 0, 8, 21, 4]
abbrev dktX6_feed_2 : List UInt8 := dkwX6_feed_2 ++ dktX6_feed_3
def dkwX6_feed_1 : List UInt8 := [21, 6, 16, 20, 162, 0, 86, 21, 6, 7, 162, 0, 7, 27, 167, 0, 39, 21, 6, 16, 8, 162, 0, 7]
abbrev dktX6_feed_1 : List UInt8 := dkwX6_feed_1 ++ dktX6_feed_2
def dkwX6_feed_0 : List UInt8 := [42, 3, 181, 0, 119, 42, 180, 0, 122, 16, 20, 96, 17, 3, 132, 164, 0, 5, 2, 172, 3, 54, 6]
abbrev dktX6_feed_0 : List UInt8 := dkwX6_feed_0 ++ dktX6_feed_1
theorem dksX6_feed_0 : cX6_feed.data.toList.drop 0 = dktX6_feed_0 := by decide +kernel
theorem dksX6_feed_1 : cX6_feed.data.toList.drop 23 = dktX6_feed_1 := dk_seg dksX6_feed_0 23 rfl rfl
theorem dksX6_feed_2 : cX6_feed.data.toList.drop 47 = dktX6_feed_2 := dk_seg dksX6_feed_1 24 rfl rfl
theorem dksX6_feed_3 : cX6_feed.data.toList.drop 71 = dktX6_feed_3 := dk_seg dksX6_feed_2 24 rfl rfl
theorem dksX6_feed_4 : cX6_feed.data.toList.drop 95 = dktX6_feed_4 := dk_seg dksX6_feed_3 24 rfl rfl
theorem dksX6_feed_5 : cX6_feed.data.toList.drop 118 = dktX6_feed_5 := dk_seg dksX6_feed_4 23 rfl rfl
theorem dX6_feed_0 : decode cX6_feed 0 = .ok (.aload_n 0, 1) := dk_42 (dk_at dksX6_feed_0 0 rfl rfl)
theorem dX6_feed_1 : decode cX6_feed 1 = .ok (.iconst 0, 1) := dk_3 (dk_at dksX6_feed_0 1 rfl rfl)
theorem dX6_feed_2 : decode cX6_feed 2 = .ok (.putfield 119, 3) := dk_181 0 119 (dk_at dksX6_feed_0 2 rfl rfl)
theorem dX6_feed_5 : decode cX6_feed 5 = .ok (.aload_n 0, 1) := dk_42 (dk_at dksX6_feed_0 5 rfl rfl)
theorem dX6_feed_6 : decode cX6_feed 6 = .ok (.getfield 122, 3) := dk_180 0 122 (dk_at dksX6_feed_0 6 rfl rfl)
theorem dX6_feed_9 : decode cX6_feed 9 = .ok (.bipush 20, 2) := dk_16 20 (dk_at dksX6_feed_0 9 rfl rfl)
theorem dX6_feed_11 : decode cX6_feed 11 = .ok (.iadd, 1) := dk_96 (dk_at dksX6_feed_0 11 rfl rfl)
theorem dX6_feed_12 : decode cX6_feed 12 = .ok (.sipush 900, 3) := dk_17 3 132 (dk_at dksX6_feed_0 12 rfl rfl)
theorem dX6_feed_15 : decode cX6_feed 15 = .ok (.if_icmp .le 5, 3) := dk_164 0 5 (dk_at dksX6_feed_0 15 rfl rfl)
theorem dX6_feed_18 : decode cX6_feed 18 = .ok (.iconst (-1), 1) := dk_2 (dk_at dksX6_feed_0 18 rfl rfl)
theorem dX6_feed_19 : decode cX6_feed 19 = .ok (.ireturn, 1) := dk_172 (dk_at dksX6_feed_0 19 rfl rfl)
theorem dX6_feed_20 : decode cX6_feed 20 = .ok (.iconst 0, 1) := dk_3 (dk_at dksX6_feed_0 20 rfl rfl)
theorem dX6_feed_21 : decode cX6_feed 21 = .ok (.istore 6, 2) := dk_54 6 (dk_at dksX6_feed_0 21 rfl rfl)
theorem dX6_feed_23 : decode cX6_feed 23 = .ok (.iload 6, 2) := dk_21 6 (dk_at dksX6_feed_1 0 rfl rfl)
theorem dX6_feed_25 : decode cX6_feed 25 = .ok (.bipush 20, 2) := dk_16 20 (dk_at dksX6_feed_1 2 rfl rfl)
theorem dX6_feed_27 : decode cX6_feed 27 = .ok (.if_icmp .ge 86, 3) := dk_162 0 86 (dk_at dksX6_feed_1 4 rfl rfl)
theorem dX6_feed_30 : decode cX6_feed 30 = .ok (.iload 6, 2) := dk_21 6 (dk_at dksX6_feed_1 7 rfl rfl)
theorem dX6_feed_32 : decode cX6_feed 32 = .ok (.iconst 4, 1) := dk_7 (dk_at dksX6_feed_1 9 rfl rfl)
theorem dX6_feed_33 : decode cX6_feed 33 = .ok (.if_icmp .ge 7, 3) := dk_162 0 7 (dk_at dksX6_feed_1 10 rfl rfl)
theorem dX6_feed_36 : decode cX6_feed 36 = .ok (.iload_n 1, 1) := dk_27 (dk_at dksX6_feed_1 13 rfl rfl)
theorem dX6_feed_37 : decode cX6_feed 37 = .ok (.goto 39, 3) := dk_167 0 39 (dk_at dksX6_feed_1 14 rfl rfl)
theorem dX6_feed_40 : decode cX6_feed 40 = .ok (.iload 6, 2) := dk_21 6 (dk_at dksX6_feed_1 17 rfl rfl)
theorem dX6_feed_42 : decode cX6_feed 42 = .ok (.bipush 8, 2) := dk_16 8 (dk_at dksX6_feed_1 19 rfl rfl)
theorem dX6_feed_44 : decode cX6_feed 44 = .ok (.if_icmp .ge 7, 3) := dk_162 0 7 (dk_at dksX6_feed_1 21 rfl rfl)
theorem dX6_feed_47 : decode cX6_feed 47 = .ok (.iload_n 2, 1) := dk_28 (dk_at dksX6_feed_2 0 rfl rfl)
theorem dX6_feed_48 : decode cX6_feed 48 = .ok (.goto 28, 3) := dk_167 0 28 (dk_at dksX6_feed_2 1 rfl rfl)
theorem dX6_feed_51 : decode cX6_feed 51 = .ok (.iload 6, 2) := dk_21 6 (dk_at dksX6_feed_2 4 rfl rfl)
theorem dX6_feed_53 : decode cX6_feed 53 = .ok (.bipush 12, 2) := dk_16 12 (dk_at dksX6_feed_2 6 rfl rfl)
theorem dX6_feed_55 : decode cX6_feed 55 = .ok (.if_icmp .ge 7, 3) := dk_162 0 7 (dk_at dksX6_feed_2 8 rfl rfl)
theorem dX6_feed_58 : decode cX6_feed 58 = .ok (.iload_n 3, 1) := dk_29 (dk_at dksX6_feed_2 11 rfl rfl)
theorem dX6_feed_59 : decode cX6_feed 59 = .ok (.goto 17, 3) := dk_167 0 17 (dk_at dksX6_feed_2 12 rfl rfl)
theorem dX6_feed_62 : decode cX6_feed 62 = .ok (.iload 6, 2) := dk_21 6 (dk_at dksX6_feed_2 15 rfl rfl)
theorem dX6_feed_64 : decode cX6_feed 64 = .ok (.bipush 16, 2) := dk_16 16 (dk_at dksX6_feed_2 17 rfl rfl)
theorem dX6_feed_66 : decode cX6_feed 66 = .ok (.if_icmp .ge 8, 3) := dk_162 0 8 (dk_at dksX6_feed_2 19 rfl rfl)
theorem dX6_feed_69 : decode cX6_feed 69 = .ok (.iload 4, 2) := dk_21 4 (dk_at dksX6_feed_2 22 rfl rfl)
theorem dX6_feed_71 : decode cX6_feed 71 = .ok (.goto 5, 3) := dk_167 0 5 (dk_at dksX6_feed_3 0 rfl rfl)
theorem dX6_feed_74 : decode cX6_feed 74 = .ok (.iload 5, 2) := dk_21 5 (dk_at dksX6_feed_3 3 rfl rfl)
theorem dX6_feed_76 : decode cX6_feed 76 = .ok (.istore 7, 2) := dk_54 7 (dk_at dksX6_feed_3 5 rfl rfl)
theorem dX6_feed_78 : decode cX6_feed 78 = .ok (.aload_n 0, 1) := dk_42 (dk_at dksX6_feed_3 7 rfl rfl)
theorem dX6_feed_79 : decode cX6_feed 79 = .ok (.getfield 7, 3) := dk_180 0 7 (dk_at dksX6_feed_3 8 rfl rfl)
theorem dX6_feed_82 : decode cX6_feed 82 = .ok (.aload_n 0, 1) := dk_42 (dk_at dksX6_feed_3 11 rfl rfl)
theorem dX6_feed_83 : decode cX6_feed 83 = .ok (.getfield 122, 3) := dk_180 0 122 (dk_at dksX6_feed_3 12 rfl rfl)
theorem dX6_feed_86 : decode cX6_feed 86 = .ok (.iload 6, 2) := dk_21 6 (dk_at dksX6_feed_3 15 rfl rfl)
theorem dX6_feed_88 : decode cX6_feed 88 = .ok (.iadd, 1) := dk_96 (dk_at dksX6_feed_3 17 rfl rfl)
theorem dX6_feed_89 : decode cX6_feed 89 = .ok (.iload 7, 2) := dk_21 7 (dk_at dksX6_feed_3 18 rfl rfl)
theorem dX6_feed_91 : decode cX6_feed 91 = .ok (.bipush 24, 2) := dk_16 24 (dk_at dksX6_feed_3 20 rfl rfl)
theorem dX6_feed_93 : decode cX6_feed 93 = .ok (.bipush 8, 2) := dk_16 8 (dk_at dksX6_feed_3 22 rfl rfl)
theorem dX6_feed_95 : decode cX6_feed 95 = .ok (.iload 6, 2) := dk_21 6 (dk_at dksX6_feed_4 0 rfl rfl)
theorem dX6_feed_97 : decode cX6_feed 97 = .ok (.iconst 4, 1) := dk_7 (dk_at dksX6_feed_4 2 rfl rfl)
theorem dX6_feed_98 : decode cX6_feed 98 = .ok (.irem, 1) := dk_112 (dk_at dksX6_feed_4 3 rfl rfl)
theorem dX6_feed_99 : decode cX6_feed 99 = .ok (.imul, 1) := dk_104 (dk_at dksX6_feed_4 4 rfl rfl)
theorem dX6_feed_100 : decode cX6_feed 100 = .ok (.isub, 1) := dk_100 (dk_at dksX6_feed_4 5 rfl rfl)
theorem dX6_feed_101 : decode cX6_feed 101 = .ok (.ishr, 1) := dk_122 (dk_at dksX6_feed_4 6 rfl rfl)
theorem dX6_feed_102 : decode cX6_feed 102 = .ok (.sipush 255, 3) := dk_17 0 255 (dk_at dksX6_feed_4 7 rfl rfl)
theorem dX6_feed_105 : decode cX6_feed 105 = .ok (.iand, 1) := dk_126 (dk_at dksX6_feed_4 10 rfl rfl)
theorem dX6_feed_106 : decode cX6_feed 106 = .ok (.iastore, 1) := dk_79 (dk_at dksX6_feed_4 11 rfl rfl)
theorem dX6_feed_107 : decode cX6_feed 107 = .ok (.iinc 6 1, 3) := dk_132 6 1 (dk_at dksX6_feed_4 12 rfl rfl)
theorem dX6_feed_110 : decode cX6_feed 110 = .ok (.goto (-87), 3) := dk_167 255 169 (dk_at dksX6_feed_4 15 rfl rfl)
theorem dX6_feed_113 : decode cX6_feed 113 = .ok (.aload_n 0, 1) := dk_42 (dk_at dksX6_feed_4 18 rfl rfl)
theorem dX6_feed_114 : decode cX6_feed 114 = .ok (.dup, 1) := dk_89 (dk_at dksX6_feed_4 19 rfl rfl)
theorem dX6_feed_115 : decode cX6_feed 115 = .ok (.getfield 122, 3) := dk_180 0 122 (dk_at dksX6_feed_4 20 rfl rfl)
theorem dX6_feed_118 : decode cX6_feed 118 = .ok (.bipush 20, 2) := dk_16 20 (dk_at dksX6_feed_5 0 rfl rfl)
theorem dX6_feed_120 : decode cX6_feed 120 = .ok (.iadd, 1) := dk_96 (dk_at dksX6_feed_5 2 rfl rfl)
theorem dX6_feed_121 : decode cX6_feed 121 = .ok (.putfield 122, 3) := dk_181 0 122 (dk_at dksX6_feed_5 3 rfl rfl)
theorem dX6_feed_124 : decode cX6_feed 124 = .ok (.aload_n 0, 1) := dk_42 (dk_at dksX6_feed_5 6 rfl rfl)
theorem dX6_feed_125 : decode cX6_feed 125 = .ok (.getfield 122, 3) := dk_180 0 122 (dk_at dksX6_feed_5 7 rfl rfl)
theorem dX6_feed_128 : decode cX6_feed 128 = .ok (.ireturn, 1) := dk_172 (dk_at dksX6_feed_5 10 rfl rfl)
abbrev cX6_text : ByteArray := prog_20_method_39_code
def yX6_text : MethodName := ⟨RX6, "text", "(I)I"⟩
def dkwX6_text_3 : List UInt8 := [172, 132, 2, 1, 167, 255, 237, 42, 182, 0, 116, 28, 172]
abbrev dktX6_text_3 : List UInt8 := dkwX6_text_3 ++ []
def dkwX6_text_2 : List UInt8 := [182, 0, 113, 42, 182, 0, 173, 3, 61, 42, 180, 0, 139, 153, 0, 18, 42, 182, 1, 71, 154, 0, 5, 2]
abbrev dktX6_text_2 : List UInt8 := dkwX6_text_2 ++ dktX6_text_3
def dkwX6_text_1 : List UInt8 := [181, 0, 133, 42, 3, 181, 0, 122, 42, 3, 181, 0, 127, 42, 2, 181, 0, 16, 42, 3, 181, 0, 136, 42]
abbrev dktX6_text_1 : List UInt8 := dkwX6_text_1 ++ dktX6_text_2
def dkwX6_text_0 : List UInt8 := [42, 3, 181, 0, 119, 27, 155, 0, 11, 27, 42, 180, 0, 122, 164, 0, 6, 16, 254, 172, 42, 27]
abbrev dktX6_text_0 : List UInt8 := dkwX6_text_0 ++ dktX6_text_1
theorem dksX6_text_0 : cX6_text.data.toList.drop 0 = dktX6_text_0 := by decide +kernel
theorem dksX6_text_1 : cX6_text.data.toList.drop 22 = dktX6_text_1 := dk_seg dksX6_text_0 22 rfl rfl
theorem dksX6_text_2 : cX6_text.data.toList.drop 46 = dktX6_text_2 := dk_seg dksX6_text_1 24 rfl rfl
theorem dksX6_text_3 : cX6_text.data.toList.drop 70 = dktX6_text_3 := dk_seg dksX6_text_2 24 rfl rfl
theorem dX6_text_0 : decode cX6_text 0 = .ok (.aload_n 0, 1) := dk_42 (dk_at dksX6_text_0 0 rfl rfl)
theorem dX6_text_1 : decode cX6_text 1 = .ok (.iconst 0, 1) := dk_3 (dk_at dksX6_text_0 1 rfl rfl)
theorem dX6_text_2 : decode cX6_text 2 = .ok (.putfield 119, 3) := dk_181 0 119 (dk_at dksX6_text_0 2 rfl rfl)
theorem dX6_text_5 : decode cX6_text 5 = .ok (.iload_n 1, 1) := dk_27 (dk_at dksX6_text_0 5 rfl rfl)
theorem dX6_text_6 : decode cX6_text 6 = .ok (.ifCond .lt 11, 3) := dk_155 0 11 (dk_at dksX6_text_0 6 rfl rfl)
theorem dX6_text_9 : decode cX6_text 9 = .ok (.iload_n 1, 1) := dk_27 (dk_at dksX6_text_0 9 rfl rfl)
theorem dX6_text_10 : decode cX6_text 10 = .ok (.aload_n 0, 1) := dk_42 (dk_at dksX6_text_0 10 rfl rfl)
theorem dX6_text_11 : decode cX6_text 11 = .ok (.getfield 122, 3) := dk_180 0 122 (dk_at dksX6_text_0 11 rfl rfl)
theorem dX6_text_14 : decode cX6_text 14 = .ok (.if_icmp .le 6, 3) := dk_164 0 6 (dk_at dksX6_text_0 14 rfl rfl)
theorem dX6_text_17 : decode cX6_text 17 = .ok (.bipush (-2), 2) := dk_16 254 (dk_at dksX6_text_0 17 rfl rfl)
theorem dX6_text_19 : decode cX6_text 19 = .ok (.ireturn, 1) := dk_172 (dk_at dksX6_text_0 19 rfl rfl)
theorem dX6_text_20 : decode cX6_text 20 = .ok (.aload_n 0, 1) := dk_42 (dk_at dksX6_text_0 20 rfl rfl)
theorem dX6_text_21 : decode cX6_text 21 = .ok (.iload_n 1, 1) := dk_27 (dk_at dksX6_text_0 21 rfl rfl)
theorem dX6_text_22 : decode cX6_text 22 = .ok (.putfield 133, 3) := dk_181 0 133 (dk_at dksX6_text_1 0 rfl rfl)
theorem dX6_text_25 : decode cX6_text 25 = .ok (.aload_n 0, 1) := dk_42 (dk_at dksX6_text_1 3 rfl rfl)
theorem dX6_text_26 : decode cX6_text 26 = .ok (.iconst 0, 1) := dk_3 (dk_at dksX6_text_1 4 rfl rfl)
theorem dX6_text_27 : decode cX6_text 27 = .ok (.putfield 122, 3) := dk_181 0 122 (dk_at dksX6_text_1 5 rfl rfl)
theorem dX6_text_30 : decode cX6_text 30 = .ok (.aload_n 0, 1) := dk_42 (dk_at dksX6_text_1 8 rfl rfl)
theorem dX6_text_31 : decode cX6_text 31 = .ok (.iconst 0, 1) := dk_3 (dk_at dksX6_text_1 9 rfl rfl)
theorem dX6_text_32 : decode cX6_text 32 = .ok (.putfield 127, 3) := dk_181 0 127 (dk_at dksX6_text_1 10 rfl rfl)
theorem dX6_text_35 : decode cX6_text 35 = .ok (.aload_n 0, 1) := dk_42 (dk_at dksX6_text_1 13 rfl rfl)
theorem dX6_text_36 : decode cX6_text 36 = .ok (.iconst (-1), 1) := dk_2 (dk_at dksX6_text_1 14 rfl rfl)
theorem dX6_text_37 : decode cX6_text 37 = .ok (.putfield 16, 3) := dk_181 0 16 (dk_at dksX6_text_1 15 rfl rfl)
theorem dX6_text_40 : decode cX6_text 40 = .ok (.aload_n 0, 1) := dk_42 (dk_at dksX6_text_1 18 rfl rfl)
theorem dX6_text_41 : decode cX6_text 41 = .ok (.iconst 0, 1) := dk_3 (dk_at dksX6_text_1 19 rfl rfl)
theorem dX6_text_42 : decode cX6_text 42 = .ok (.putfield 136, 3) := dk_181 0 136 (dk_at dksX6_text_1 20 rfl rfl)
theorem dX6_text_45 : decode cX6_text 45 = .ok (.aload_n 0, 1) := dk_42 (dk_at dksX6_text_1 23 rfl rfl)
theorem dX6_text_46 : decode cX6_text 46 = .ok (.invokevirtual 113, 3) := dk_182 0 113 (dk_at dksX6_text_2 0 rfl rfl)
theorem dX6_text_49 : decode cX6_text 49 = .ok (.aload_n 0, 1) := dk_42 (dk_at dksX6_text_2 3 rfl rfl)
theorem dX6_text_50 : decode cX6_text 50 = .ok (.invokevirtual 173, 3) := dk_182 0 173 (dk_at dksX6_text_2 4 rfl rfl)
theorem dX6_text_53 : decode cX6_text 53 = .ok (.iconst 0, 1) := dk_3 (dk_at dksX6_text_2 7 rfl rfl)
theorem dX6_text_54 : decode cX6_text 54 = .ok (.istore_n 2, 1) := dk_61 (dk_at dksX6_text_2 8 rfl rfl)
theorem dX6_text_55 : decode cX6_text 55 = .ok (.aload_n 0, 1) := dk_42 (dk_at dksX6_text_2 9 rfl rfl)
theorem dX6_text_56 : decode cX6_text 56 = .ok (.getfield 139, 3) := dk_180 0 139 (dk_at dksX6_text_2 10 rfl rfl)
theorem dX6_text_59 : decode cX6_text 59 = .ok (.ifCond .eq 18, 3) := dk_153 0 18 (dk_at dksX6_text_2 13 rfl rfl)
theorem dX6_text_62 : decode cX6_text 62 = .ok (.aload_n 0, 1) := dk_42 (dk_at dksX6_text_2 16 rfl rfl)
theorem dX6_text_63 : decode cX6_text 63 = .ok (.invokevirtual 327, 3) := dk_182 1 71 (dk_at dksX6_text_2 17 rfl rfl)
theorem dX6_text_66 : decode cX6_text 66 = .ok (.ifCond .ne 5, 3) := dk_154 0 5 (dk_at dksX6_text_2 20 rfl rfl)
theorem dX6_text_69 : decode cX6_text 69 = .ok (.iconst (-1), 1) := dk_2 (dk_at dksX6_text_2 23 rfl rfl)
theorem dX6_text_70 : decode cX6_text 70 = .ok (.ireturn, 1) := dk_172 (dk_at dksX6_text_3 0 rfl rfl)
theorem dX6_text_71 : decode cX6_text 71 = .ok (.iinc 2 1, 3) := dk_132 2 1 (dk_at dksX6_text_3 1 rfl rfl)
theorem dX6_text_74 : decode cX6_text 74 = .ok (.goto (-19), 3) := dk_167 255 237 (dk_at dksX6_text_3 4 rfl rfl)
theorem dX6_text_77 : decode cX6_text 77 = .ok (.aload_n 0, 1) := dk_42 (dk_at dksX6_text_3 7 rfl rfl)
theorem dX6_text_78 : decode cX6_text 78 = .ok (.invokevirtual 116, 3) := dk_182 0 116 (dk_at dksX6_text_3 8 rfl rfl)
theorem dX6_text_81 : decode cX6_text 81 = .ok (.iload_n 2, 1) := dk_28 (dk_at dksX6_text_3 11 rfl rfl)
theorem dX6_text_82 : decode cX6_text 82 = .ok (.ireturn, 1) := dk_172 (dk_at dksX6_text_3 12 rfl rfl)
abbrev cX6_token : ByteArray := prog_20_method_11_code
def yX6_token : MethodName := ⟨RX6, "token", "()V"⟩
def dkwX6_token_11 : List UInt8 := [16, 48, 100, 181, 0, 150, 42, 89, 180, 0, 136, 4, 96, 181, 0, 136, 167, 255, 195, 42, 182, 0, 160, 177]
abbrev dktX6_token_11 : List UInt8 := dkwX6_token_11 ++ []
def dkwX6_token_10 : List UInt8 := [42, 180, 0, 150, 167, 0, 23, 16, 10, 42, 180, 0, 150, 104, 42, 180, 0, 7, 42, 180, 0, 136, 46, 96]
abbrev dktX6_token_10 : List UInt8 := dkwX6_token_10 ++ dktX6_token_11
def dkwX6_token_9 : List UInt8 := [181, 0, 150, 42, 42, 180, 0, 136, 182, 0, 156, 153, 0, 60, 42, 42, 180, 0, 150, 18, 159, 164, 0, 10]
abbrev dktX6_token_9 : List UInt8 := dkwX6_token_9 ++ dktX6_token_10
def dkwX6_token_8 : List UInt8 := [181, 0, 150, 167, 0, 92, 42, 42, 180, 0, 136, 182, 0, 156, 153, 0, 77, 42, 6, 181, 0, 139, 42, 3]
abbrev dktX6_token_8 : List UInt8 := dkwX6_token_8 ++ dktX6_token_9
def dkwX6_token_7 : List UInt8 := [181, 0, 139, 42, 180, 0, 139, 5, 160, 0, 111, 42, 42, 42, 180, 0, 130, 42, 180, 0, 136, 182, 0, 153]
abbrev dktX6_token_7 : List UInt8 := dkwX6_token_7 ++ dktX6_token_8
def dkwX6_token_6 : List UInt8 := [167, 0, 23, 42, 180, 0, 136, 42, 180, 0, 130, 100, 16, 6, 164, 0, 8, 16, 6, 167, 0, 4, 5]
abbrev dktX6_token_6 : List UInt8 := dkwX6_token_6 ++ dktX6_token_7
def dkwX6_token_5 : List UInt8 := [42, 180, 0, 130, 42, 180, 0, 136, 182, 0, 146, 181, 0, 150, 42, 42, 180, 0, 150, 155, 0, 7, 4]
abbrev dktX6_token_5 : List UInt8 := dkwX6_token_5 ++ dktX6_token_6
def dkwX6_token_4 : List UInt8 := [180, 0, 136, 182, 0, 142, 153, 0, 16, 42, 89, 180, 0, 136, 4, 96, 181, 0, 136, 167, 255, 235, 42, 42]
abbrev dktX6_token_4 : List UInt8 := dkwX6_token_4 ++ dktX6_token_5
def dkwX6_token_3 : List UInt8 := [160, 0, 11, 42, 3, 181, 0, 139, 167, 0, 205, 42, 42, 180, 0, 136, 182, 0, 142, 153, 0, 105, 42, 42]
abbrev dktX6_token_3 : List UInt8 := dkwX6_token_3 ++ dktX6_token_4
def dkwX6_token_2 : List UInt8 := [181, 0, 136, 167, 255, 207, 42, 42, 180, 0, 136, 181, 0, 130, 42, 180, 0, 136, 42, 180, 0, 133]
abbrev dktX6_token_2 : List UInt8 := dkwX6_token_2 ++ dktX6_token_3
def dkwX6_token_1 : List UInt8 := [159, 0, 17, 42, 180, 0, 7, 42, 180, 0, 136, 46, 16, 32, 160, 0, 16, 42, 89, 180, 0, 136, 4, 96]
abbrev dktX6_token_1 : List UInt8 := dkwX6_token_1 ++ dktX6_token_2
def dkwX6_token_0 : List UInt8 := [42, 180, 0, 136, 42, 180, 0, 133, 162, 0, 44, 42, 180, 0, 7, 42, 180, 0, 136, 46, 16, 10]
abbrev dktX6_token_0 : List UInt8 := dkwX6_token_0 ++ dktX6_token_1
theorem dksX6_token_0 : cX6_token.data.toList.drop 0 = dktX6_token_0 := by decide +kernel
theorem dksX6_token_1 : cX6_token.data.toList.drop 22 = dktX6_token_1 := dk_seg dksX6_token_0 22 rfl rfl
theorem dksX6_token_2 : cX6_token.data.toList.drop 46 = dktX6_token_2 := dk_seg dksX6_token_1 24 rfl rfl
theorem dksX6_token_3 : cX6_token.data.toList.drop 68 = dktX6_token_3 := dk_seg dksX6_token_2 22 rfl rfl
theorem dksX6_token_4 : cX6_token.data.toList.drop 92 = dktX6_token_4 := dk_seg dksX6_token_3 24 rfl rfl
theorem dksX6_token_5 : cX6_token.data.toList.drop 116 = dktX6_token_5 := dk_seg dksX6_token_4 24 rfl rfl
theorem dksX6_token_6 : cX6_token.data.toList.drop 139 = dktX6_token_6 := dk_seg dksX6_token_5 23 rfl rfl
theorem dksX6_token_7 : cX6_token.data.toList.drop 162 = dktX6_token_7 := dk_seg dksX6_token_6 23 rfl rfl
theorem dksX6_token_8 : cX6_token.data.toList.drop 186 = dktX6_token_8 := dk_seg dksX6_token_7 24 rfl rfl
theorem dksX6_token_9 : cX6_token.data.toList.drop 210 = dktX6_token_9 := dk_seg dksX6_token_8 24 rfl rfl
theorem dksX6_token_10 : cX6_token.data.toList.drop 234 = dktX6_token_10 := dk_seg dksX6_token_9 24 rfl rfl
theorem dksX6_token_11 : cX6_token.data.toList.drop 258 = dktX6_token_11 := dk_seg dksX6_token_10 24 rfl rfl
theorem dX6_token_0 : decode cX6_token 0 = .ok (.aload_n 0, 1) := dk_42 (dk_at dksX6_token_0 0 rfl rfl)
theorem dX6_token_1 : decode cX6_token 1 = .ok (.getfield 136, 3) := dk_180 0 136 (dk_at dksX6_token_0 1 rfl rfl)
theorem dX6_token_4 : decode cX6_token 4 = .ok (.aload_n 0, 1) := dk_42 (dk_at dksX6_token_0 4 rfl rfl)
theorem dX6_token_5 : decode cX6_token 5 = .ok (.getfield 133, 3) := dk_180 0 133 (dk_at dksX6_token_0 5 rfl rfl)
theorem dX6_token_8 : decode cX6_token 8 = .ok (.if_icmp .ge 44, 3) := dk_162 0 44 (dk_at dksX6_token_0 8 rfl rfl)
theorem dX6_token_11 : decode cX6_token 11 = .ok (.aload_n 0, 1) := dk_42 (dk_at dksX6_token_0 11 rfl rfl)
theorem dX6_token_12 : decode cX6_token 12 = .ok (.getfield 7, 3) := dk_180 0 7 (dk_at dksX6_token_0 12 rfl rfl)
theorem dX6_token_15 : decode cX6_token 15 = .ok (.aload_n 0, 1) := dk_42 (dk_at dksX6_token_0 15 rfl rfl)
theorem dX6_token_16 : decode cX6_token 16 = .ok (.getfield 136, 3) := dk_180 0 136 (dk_at dksX6_token_0 16 rfl rfl)
theorem dX6_token_19 : decode cX6_token 19 = .ok (.iaload, 1) := dk_46 (dk_at dksX6_token_0 19 rfl rfl)
theorem dX6_token_20 : decode cX6_token 20 = .ok (.bipush 10, 2) := dk_16 10 (dk_at dksX6_token_0 20 rfl rfl)
theorem dX6_token_22 : decode cX6_token 22 = .ok (.if_icmp .eq 17, 3) := dk_159 0 17 (dk_at dksX6_token_1 0 rfl rfl)
theorem dX6_token_25 : decode cX6_token 25 = .ok (.aload_n 0, 1) := dk_42 (dk_at dksX6_token_1 3 rfl rfl)
theorem dX6_token_26 : decode cX6_token 26 = .ok (.getfield 7, 3) := dk_180 0 7 (dk_at dksX6_token_1 4 rfl rfl)
theorem dX6_token_29 : decode cX6_token 29 = .ok (.aload_n 0, 1) := dk_42 (dk_at dksX6_token_1 7 rfl rfl)
theorem dX6_token_30 : decode cX6_token 30 = .ok (.getfield 136, 3) := dk_180 0 136 (dk_at dksX6_token_1 8 rfl rfl)
theorem dX6_token_33 : decode cX6_token 33 = .ok (.iaload, 1) := dk_46 (dk_at dksX6_token_1 11 rfl rfl)
theorem dX6_token_34 : decode cX6_token 34 = .ok (.bipush 32, 2) := dk_16 32 (dk_at dksX6_token_1 12 rfl rfl)
theorem dX6_token_36 : decode cX6_token 36 = .ok (.if_icmp .ne 16, 3) := dk_160 0 16 (dk_at dksX6_token_1 14 rfl rfl)
theorem dX6_token_39 : decode cX6_token 39 = .ok (.aload_n 0, 1) := dk_42 (dk_at dksX6_token_1 17 rfl rfl)
theorem dX6_token_40 : decode cX6_token 40 = .ok (.dup, 1) := dk_89 (dk_at dksX6_token_1 18 rfl rfl)
theorem dX6_token_41 : decode cX6_token 41 = .ok (.getfield 136, 3) := dk_180 0 136 (dk_at dksX6_token_1 19 rfl rfl)
theorem dX6_token_44 : decode cX6_token 44 = .ok (.iconst 1, 1) := dk_4 (dk_at dksX6_token_1 22 rfl rfl)
theorem dX6_token_45 : decode cX6_token 45 = .ok (.iadd, 1) := dk_96 (dk_at dksX6_token_1 23 rfl rfl)
theorem dX6_token_46 : decode cX6_token 46 = .ok (.putfield 136, 3) := dk_181 0 136 (dk_at dksX6_token_2 0 rfl rfl)
theorem dX6_token_49 : decode cX6_token 49 = .ok (.goto (-49), 3) := dk_167 255 207 (dk_at dksX6_token_2 3 rfl rfl)
theorem dX6_token_52 : decode cX6_token 52 = .ok (.aload_n 0, 1) := dk_42 (dk_at dksX6_token_2 6 rfl rfl)
theorem dX6_token_53 : decode cX6_token 53 = .ok (.aload_n 0, 1) := dk_42 (dk_at dksX6_token_2 7 rfl rfl)
theorem dX6_token_54 : decode cX6_token 54 = .ok (.getfield 136, 3) := dk_180 0 136 (dk_at dksX6_token_2 8 rfl rfl)
theorem dX6_token_57 : decode cX6_token 57 = .ok (.putfield 130, 3) := dk_181 0 130 (dk_at dksX6_token_2 11 rfl rfl)
theorem dX6_token_60 : decode cX6_token 60 = .ok (.aload_n 0, 1) := dk_42 (dk_at dksX6_token_2 14 rfl rfl)
theorem dX6_token_61 : decode cX6_token 61 = .ok (.getfield 136, 3) := dk_180 0 136 (dk_at dksX6_token_2 15 rfl rfl)
theorem dX6_token_64 : decode cX6_token 64 = .ok (.aload_n 0, 1) := dk_42 (dk_at dksX6_token_2 18 rfl rfl)
theorem dX6_token_65 : decode cX6_token 65 = .ok (.getfield 133, 3) := dk_180 0 133 (dk_at dksX6_token_2 19 rfl rfl)
theorem dX6_token_68 : decode cX6_token 68 = .ok (.if_icmp .ne 11, 3) := dk_160 0 11 (dk_at dksX6_token_3 0 rfl rfl)
theorem dX6_token_71 : decode cX6_token 71 = .ok (.aload_n 0, 1) := dk_42 (dk_at dksX6_token_3 3 rfl rfl)
theorem dX6_token_72 : decode cX6_token 72 = .ok (.iconst 0, 1) := dk_3 (dk_at dksX6_token_3 4 rfl rfl)
theorem dX6_token_73 : decode cX6_token 73 = .ok (.putfield 139, 3) := dk_181 0 139 (dk_at dksX6_token_3 5 rfl rfl)
theorem dX6_token_76 : decode cX6_token 76 = .ok (.goto 205, 3) := dk_167 0 205 (dk_at dksX6_token_3 8 rfl rfl)
theorem dX6_token_79 : decode cX6_token 79 = .ok (.aload_n 0, 1) := dk_42 (dk_at dksX6_token_3 11 rfl rfl)
theorem dX6_token_80 : decode cX6_token 80 = .ok (.aload_n 0, 1) := dk_42 (dk_at dksX6_token_3 12 rfl rfl)
theorem dX6_token_81 : decode cX6_token 81 = .ok (.getfield 136, 3) := dk_180 0 136 (dk_at dksX6_token_3 13 rfl rfl)
theorem dX6_token_84 : decode cX6_token 84 = .ok (.invokevirtual 142, 3) := dk_182 0 142 (dk_at dksX6_token_3 16 rfl rfl)
theorem dX6_token_87 : decode cX6_token 87 = .ok (.ifCond .eq 105, 3) := dk_153 0 105 (dk_at dksX6_token_3 19 rfl rfl)
theorem dX6_token_90 : decode cX6_token 90 = .ok (.aload_n 0, 1) := dk_42 (dk_at dksX6_token_3 22 rfl rfl)
theorem dX6_token_91 : decode cX6_token 91 = .ok (.aload_n 0, 1) := dk_42 (dk_at dksX6_token_3 23 rfl rfl)
theorem dX6_token_92 : decode cX6_token 92 = .ok (.getfield 136, 3) := dk_180 0 136 (dk_at dksX6_token_4 0 rfl rfl)
theorem dX6_token_95 : decode cX6_token 95 = .ok (.invokevirtual 142, 3) := dk_182 0 142 (dk_at dksX6_token_4 3 rfl rfl)
theorem dX6_token_98 : decode cX6_token 98 = .ok (.ifCond .eq 16, 3) := dk_153 0 16 (dk_at dksX6_token_4 6 rfl rfl)
theorem dX6_token_101 : decode cX6_token 101 = .ok (.aload_n 0, 1) := dk_42 (dk_at dksX6_token_4 9 rfl rfl)
theorem dX6_token_102 : decode cX6_token 102 = .ok (.dup, 1) := dk_89 (dk_at dksX6_token_4 10 rfl rfl)
theorem dX6_token_103 : decode cX6_token 103 = .ok (.getfield 136, 3) := dk_180 0 136 (dk_at dksX6_token_4 11 rfl rfl)
theorem dX6_token_106 : decode cX6_token 106 = .ok (.iconst 1, 1) := dk_4 (dk_at dksX6_token_4 14 rfl rfl)
theorem dX6_token_107 : decode cX6_token 107 = .ok (.iadd, 1) := dk_96 (dk_at dksX6_token_4 15 rfl rfl)
theorem dX6_token_108 : decode cX6_token 108 = .ok (.putfield 136, 3) := dk_181 0 136 (dk_at dksX6_token_4 16 rfl rfl)
theorem dX6_token_111 : decode cX6_token 111 = .ok (.goto (-21), 3) := dk_167 255 235 (dk_at dksX6_token_4 19 rfl rfl)
theorem dX6_token_114 : decode cX6_token 114 = .ok (.aload_n 0, 1) := dk_42 (dk_at dksX6_token_4 22 rfl rfl)
theorem dX6_token_115 : decode cX6_token 115 = .ok (.aload_n 0, 1) := dk_42 (dk_at dksX6_token_4 23 rfl rfl)
theorem dX6_token_116 : decode cX6_token 116 = .ok (.aload_n 0, 1) := dk_42 (dk_at dksX6_token_5 0 rfl rfl)
theorem dX6_token_117 : decode cX6_token 117 = .ok (.getfield 130, 3) := dk_180 0 130 (dk_at dksX6_token_5 1 rfl rfl)
theorem dX6_token_120 : decode cX6_token 120 = .ok (.aload_n 0, 1) := dk_42 (dk_at dksX6_token_5 4 rfl rfl)
theorem dX6_token_121 : decode cX6_token 121 = .ok (.getfield 136, 3) := dk_180 0 136 (dk_at dksX6_token_5 5 rfl rfl)
theorem dX6_token_124 : decode cX6_token 124 = .ok (.invokevirtual 146, 3) := dk_182 0 146 (dk_at dksX6_token_5 8 rfl rfl)
theorem dX6_token_127 : decode cX6_token 127 = .ok (.putfield 150, 3) := dk_181 0 150 (dk_at dksX6_token_5 11 rfl rfl)
theorem dX6_token_130 : decode cX6_token 130 = .ok (.aload_n 0, 1) := dk_42 (dk_at dksX6_token_5 14 rfl rfl)
theorem dX6_token_131 : decode cX6_token 131 = .ok (.aload_n 0, 1) := dk_42 (dk_at dksX6_token_5 15 rfl rfl)
theorem dX6_token_132 : decode cX6_token 132 = .ok (.getfield 150, 3) := dk_180 0 150 (dk_at dksX6_token_5 16 rfl rfl)
theorem dX6_token_135 : decode cX6_token 135 = .ok (.ifCond .lt 7, 3) := dk_155 0 7 (dk_at dksX6_token_5 19 rfl rfl)
theorem dX6_token_138 : decode cX6_token 138 = .ok (.iconst 1, 1) := dk_4 (dk_at dksX6_token_5 22 rfl rfl)
theorem dX6_token_139 : decode cX6_token 139 = .ok (.goto 23, 3) := dk_167 0 23 (dk_at dksX6_token_6 0 rfl rfl)
theorem dX6_token_142 : decode cX6_token 142 = .ok (.aload_n 0, 1) := dk_42 (dk_at dksX6_token_6 3 rfl rfl)
theorem dX6_token_143 : decode cX6_token 143 = .ok (.getfield 136, 3) := dk_180 0 136 (dk_at dksX6_token_6 4 rfl rfl)
theorem dX6_token_146 : decode cX6_token 146 = .ok (.aload_n 0, 1) := dk_42 (dk_at dksX6_token_6 7 rfl rfl)
theorem dX6_token_147 : decode cX6_token 147 = .ok (.getfield 130, 3) := dk_180 0 130 (dk_at dksX6_token_6 8 rfl rfl)
theorem dX6_token_150 : decode cX6_token 150 = .ok (.isub, 1) := dk_100 (dk_at dksX6_token_6 11 rfl rfl)
theorem dX6_token_151 : decode cX6_token 151 = .ok (.bipush 6, 2) := dk_16 6 (dk_at dksX6_token_6 12 rfl rfl)
theorem dX6_token_153 : decode cX6_token 153 = .ok (.if_icmp .le 8, 3) := dk_164 0 8 (dk_at dksX6_token_6 14 rfl rfl)
theorem dX6_token_156 : decode cX6_token 156 = .ok (.bipush 6, 2) := dk_16 6 (dk_at dksX6_token_6 17 rfl rfl)
theorem dX6_token_158 : decode cX6_token 158 = .ok (.goto 4, 3) := dk_167 0 4 (dk_at dksX6_token_6 19 rfl rfl)
theorem dX6_token_161 : decode cX6_token 161 = .ok (.iconst 2, 1) := dk_5 (dk_at dksX6_token_6 22 rfl rfl)
theorem dX6_token_162 : decode cX6_token 162 = .ok (.putfield 139, 3) := dk_181 0 139 (dk_at dksX6_token_7 0 rfl rfl)
theorem dX6_token_165 : decode cX6_token 165 = .ok (.aload_n 0, 1) := dk_42 (dk_at dksX6_token_7 3 rfl rfl)
theorem dX6_token_166 : decode cX6_token 166 = .ok (.getfield 139, 3) := dk_180 0 139 (dk_at dksX6_token_7 4 rfl rfl)
theorem dX6_token_169 : decode cX6_token 169 = .ok (.iconst 2, 1) := dk_5 (dk_at dksX6_token_7 7 rfl rfl)
theorem dX6_token_170 : decode cX6_token 170 = .ok (.if_icmp .ne 111, 3) := dk_160 0 111 (dk_at dksX6_token_7 8 rfl rfl)
theorem dX6_token_173 : decode cX6_token 173 = .ok (.aload_n 0, 1) := dk_42 (dk_at dksX6_token_7 11 rfl rfl)
theorem dX6_token_174 : decode cX6_token 174 = .ok (.aload_n 0, 1) := dk_42 (dk_at dksX6_token_7 12 rfl rfl)
theorem dX6_token_175 : decode cX6_token 175 = .ok (.aload_n 0, 1) := dk_42 (dk_at dksX6_token_7 13 rfl rfl)
theorem dX6_token_176 : decode cX6_token 176 = .ok (.getfield 130, 3) := dk_180 0 130 (dk_at dksX6_token_7 14 rfl rfl)
theorem dX6_token_179 : decode cX6_token 179 = .ok (.aload_n 0, 1) := dk_42 (dk_at dksX6_token_7 17 rfl rfl)
theorem dX6_token_180 : decode cX6_token 180 = .ok (.getfield 136, 3) := dk_180 0 136 (dk_at dksX6_token_7 18 rfl rfl)
theorem dX6_token_183 : decode cX6_token 183 = .ok (.invokevirtual 153, 3) := dk_182 0 153 (dk_at dksX6_token_7 21 rfl rfl)
theorem dX6_token_186 : decode cX6_token 186 = .ok (.putfield 150, 3) := dk_181 0 150 (dk_at dksX6_token_8 0 rfl rfl)
theorem dX6_token_189 : decode cX6_token 189 = .ok (.goto 92, 3) := dk_167 0 92 (dk_at dksX6_token_8 3 rfl rfl)
theorem dX6_token_192 : decode cX6_token 192 = .ok (.aload_n 0, 1) := dk_42 (dk_at dksX6_token_8 6 rfl rfl)
theorem dX6_token_193 : decode cX6_token 193 = .ok (.aload_n 0, 1) := dk_42 (dk_at dksX6_token_8 7 rfl rfl)
theorem dX6_token_194 : decode cX6_token 194 = .ok (.getfield 136, 3) := dk_180 0 136 (dk_at dksX6_token_8 8 rfl rfl)
theorem dX6_token_197 : decode cX6_token 197 = .ok (.invokevirtual 156, 3) := dk_182 0 156 (dk_at dksX6_token_8 11 rfl rfl)
theorem dX6_token_200 : decode cX6_token 200 = .ok (.ifCond .eq 77, 3) := dk_153 0 77 (dk_at dksX6_token_8 14 rfl rfl)
theorem dX6_token_203 : decode cX6_token 203 = .ok (.aload_n 0, 1) := dk_42 (dk_at dksX6_token_8 17 rfl rfl)
theorem dX6_token_204 : decode cX6_token 204 = .ok (.iconst 3, 1) := dk_6 (dk_at dksX6_token_8 18 rfl rfl)
theorem dX6_token_205 : decode cX6_token 205 = .ok (.putfield 139, 3) := dk_181 0 139 (dk_at dksX6_token_8 19 rfl rfl)
theorem dX6_token_208 : decode cX6_token 208 = .ok (.aload_n 0, 1) := dk_42 (dk_at dksX6_token_8 22 rfl rfl)
theorem dX6_token_209 : decode cX6_token 209 = .ok (.iconst 0, 1) := dk_3 (dk_at dksX6_token_8 23 rfl rfl)
theorem dX6_token_210 : decode cX6_token 210 = .ok (.putfield 150, 3) := dk_181 0 150 (dk_at dksX6_token_9 0 rfl rfl)
theorem dX6_token_213 : decode cX6_token 213 = .ok (.aload_n 0, 1) := dk_42 (dk_at dksX6_token_9 3 rfl rfl)
theorem dX6_token_214 : decode cX6_token 214 = .ok (.aload_n 0, 1) := dk_42 (dk_at dksX6_token_9 4 rfl rfl)
theorem dX6_token_215 : decode cX6_token 215 = .ok (.getfield 136, 3) := dk_180 0 136 (dk_at dksX6_token_9 5 rfl rfl)
theorem dX6_token_218 : decode cX6_token 218 = .ok (.invokevirtual 156, 3) := dk_182 0 156 (dk_at dksX6_token_9 8 rfl rfl)
theorem dX6_token_221 : decode cX6_token 221 = .ok (.ifCond .eq 60, 3) := dk_153 0 60 (dk_at dksX6_token_9 11 rfl rfl)
theorem dX6_token_224 : decode cX6_token 224 = .ok (.aload_n 0, 1) := dk_42 (dk_at dksX6_token_9 14 rfl rfl)
theorem dX6_token_225 : decode cX6_token 225 = .ok (.aload_n 0, 1) := dk_42 (dk_at dksX6_token_9 15 rfl rfl)
theorem dX6_token_226 : decode cX6_token 226 = .ok (.getfield 150, 3) := dk_180 0 150 (dk_at dksX6_token_9 16 rfl rfl)
theorem dX6_token_229 : decode cX6_token 229 = .ok (.ldc 159, 2) := dk_18 159 (dk_at dksX6_token_9 19 rfl rfl)
theorem dX6_token_231 : decode cX6_token 231 = .ok (.if_icmp .le 10, 3) := dk_164 0 10 (dk_at dksX6_token_9 21 rfl rfl)
theorem dX6_token_234 : decode cX6_token 234 = .ok (.aload_n 0, 1) := dk_42 (dk_at dksX6_token_10 0 rfl rfl)
theorem dX6_token_235 : decode cX6_token 235 = .ok (.getfield 150, 3) := dk_180 0 150 (dk_at dksX6_token_10 1 rfl rfl)
theorem dX6_token_238 : decode cX6_token 238 = .ok (.goto 23, 3) := dk_167 0 23 (dk_at dksX6_token_10 4 rfl rfl)
theorem dX6_token_241 : decode cX6_token 241 = .ok (.bipush 10, 2) := dk_16 10 (dk_at dksX6_token_10 7 rfl rfl)
theorem dX6_token_243 : decode cX6_token 243 = .ok (.aload_n 0, 1) := dk_42 (dk_at dksX6_token_10 9 rfl rfl)
theorem dX6_token_244 : decode cX6_token 244 = .ok (.getfield 150, 3) := dk_180 0 150 (dk_at dksX6_token_10 10 rfl rfl)
theorem dX6_token_247 : decode cX6_token 247 = .ok (.imul, 1) := dk_104 (dk_at dksX6_token_10 13 rfl rfl)
theorem dX6_token_248 : decode cX6_token 248 = .ok (.aload_n 0, 1) := dk_42 (dk_at dksX6_token_10 14 rfl rfl)
theorem dX6_token_249 : decode cX6_token 249 = .ok (.getfield 7, 3) := dk_180 0 7 (dk_at dksX6_token_10 15 rfl rfl)
theorem dX6_token_252 : decode cX6_token 252 = .ok (.aload_n 0, 1) := dk_42 (dk_at dksX6_token_10 18 rfl rfl)
theorem dX6_token_253 : decode cX6_token 253 = .ok (.getfield 136, 3) := dk_180 0 136 (dk_at dksX6_token_10 19 rfl rfl)
theorem dX6_token_256 : decode cX6_token 256 = .ok (.iaload, 1) := dk_46 (dk_at dksX6_token_10 22 rfl rfl)
theorem dX6_token_257 : decode cX6_token 257 = .ok (.iadd, 1) := dk_96 (dk_at dksX6_token_10 23 rfl rfl)
theorem dX6_token_258 : decode cX6_token 258 = .ok (.bipush 48, 2) := dk_16 48 (dk_at dksX6_token_11 0 rfl rfl)
theorem dX6_token_260 : decode cX6_token 260 = .ok (.isub, 1) := dk_100 (dk_at dksX6_token_11 2 rfl rfl)
theorem dX6_token_261 : decode cX6_token 261 = .ok (.putfield 150, 3) := dk_181 0 150 (dk_at dksX6_token_11 3 rfl rfl)
theorem dX6_token_264 : decode cX6_token 264 = .ok (.aload_n 0, 1) := dk_42 (dk_at dksX6_token_11 6 rfl rfl)
theorem dX6_token_265 : decode cX6_token 265 = .ok (.dup, 1) := dk_89 (dk_at dksX6_token_11 7 rfl rfl)
theorem dX6_token_266 : decode cX6_token 266 = .ok (.getfield 136, 3) := dk_180 0 136 (dk_at dksX6_token_11 8 rfl rfl)
theorem dX6_token_269 : decode cX6_token 269 = .ok (.iconst 1, 1) := dk_4 (dk_at dksX6_token_11 11 rfl rfl)
theorem dX6_token_270 : decode cX6_token 270 = .ok (.iadd, 1) := dk_96 (dk_at dksX6_token_11 12 rfl rfl)
theorem dX6_token_271 : decode cX6_token 271 = .ok (.putfield 136, 3) := dk_181 0 136 (dk_at dksX6_token_11 13 rfl rfl)
theorem dX6_token_274 : decode cX6_token 274 = .ok (.goto (-61), 3) := dk_167 255 195 (dk_at dksX6_token_11 16 rfl rfl)
theorem dX6_token_277 : decode cX6_token 277 = .ok (.aload_n 0, 1) := dk_42 (dk_at dksX6_token_11 19 rfl rfl)
theorem dX6_token_278 : decode cX6_token 278 = .ok (.invokevirtual 160, 3) := dk_182 0 160 (dk_at dksX6_token_11 20 rfl rfl)
theorem dX6_token_281 : decode cX6_token 281 = .ok (.return_, 1) := dk_177 (dk_at dksX6_token_11 23 rfl rfl)
abbrev cX6_isSmall : ByteArray := prog_20_method_9_code
def yX6_isSmall : MethodName := ⟨RX6, "isSmall", "(I)Z"⟩
def dkwX6_isSmall_1 : List UInt8 := [46, 16, 122, 163, 0, 7, 4, 167, 0, 4, 3, 172]
abbrev dktX6_isSmall_1 : List UInt8 := dkwX6_isSmall_1 ++ []
def dkwX6_isSmall_0 : List UInt8 := [27, 42, 180, 0, 133, 162, 0, 29, 42, 180, 0, 7, 27, 46, 16, 97, 161, 0, 18, 42, 180, 0, 7, 27]
abbrev dktX6_isSmall_0 : List UInt8 := dkwX6_isSmall_0 ++ dktX6_isSmall_1
theorem dksX6_isSmall_0 : cX6_isSmall.data.toList.drop 0 = dktX6_isSmall_0 := by decide +kernel
theorem dksX6_isSmall_1 : cX6_isSmall.data.toList.drop 24 = dktX6_isSmall_1 := dk_seg dksX6_isSmall_0 24 rfl rfl
theorem dX6_isSmall_0 : decode cX6_isSmall 0 = .ok (.iload_n 1, 1) := dk_27 (dk_at dksX6_isSmall_0 0 rfl rfl)
theorem dX6_isSmall_1 : decode cX6_isSmall 1 = .ok (.aload_n 0, 1) := dk_42 (dk_at dksX6_isSmall_0 1 rfl rfl)
theorem dX6_isSmall_2 : decode cX6_isSmall 2 = .ok (.getfield 133, 3) := dk_180 0 133 (dk_at dksX6_isSmall_0 2 rfl rfl)
theorem dX6_isSmall_5 : decode cX6_isSmall 5 = .ok (.if_icmp .ge 29, 3) := dk_162 0 29 (dk_at dksX6_isSmall_0 5 rfl rfl)
theorem dX6_isSmall_8 : decode cX6_isSmall 8 = .ok (.aload_n 0, 1) := dk_42 (dk_at dksX6_isSmall_0 8 rfl rfl)
theorem dX6_isSmall_9 : decode cX6_isSmall 9 = .ok (.getfield 7, 3) := dk_180 0 7 (dk_at dksX6_isSmall_0 9 rfl rfl)
theorem dX6_isSmall_12 : decode cX6_isSmall 12 = .ok (.iload_n 1, 1) := dk_27 (dk_at dksX6_isSmall_0 12 rfl rfl)
theorem dX6_isSmall_13 : decode cX6_isSmall 13 = .ok (.iaload, 1) := dk_46 (dk_at dksX6_isSmall_0 13 rfl rfl)
theorem dX6_isSmall_14 : decode cX6_isSmall 14 = .ok (.bipush 97, 2) := dk_16 97 (dk_at dksX6_isSmall_0 14 rfl rfl)
theorem dX6_isSmall_16 : decode cX6_isSmall 16 = .ok (.if_icmp .lt 18, 3) := dk_161 0 18 (dk_at dksX6_isSmall_0 16 rfl rfl)
theorem dX6_isSmall_19 : decode cX6_isSmall 19 = .ok (.aload_n 0, 1) := dk_42 (dk_at dksX6_isSmall_0 19 rfl rfl)
theorem dX6_isSmall_20 : decode cX6_isSmall 20 = .ok (.getfield 7, 3) := dk_180 0 7 (dk_at dksX6_isSmall_0 20 rfl rfl)
theorem dX6_isSmall_23 : decode cX6_isSmall 23 = .ok (.iload_n 1, 1) := dk_27 (dk_at dksX6_isSmall_0 23 rfl rfl)
theorem dX6_isSmall_24 : decode cX6_isSmall 24 = .ok (.iaload, 1) := dk_46 (dk_at dksX6_isSmall_1 0 rfl rfl)
theorem dX6_isSmall_25 : decode cX6_isSmall 25 = .ok (.bipush 122, 2) := dk_16 122 (dk_at dksX6_isSmall_1 1 rfl rfl)
theorem dX6_isSmall_27 : decode cX6_isSmall 27 = .ok (.if_icmp .gt 7, 3) := dk_163 0 7 (dk_at dksX6_isSmall_1 3 rfl rfl)
theorem dX6_isSmall_30 : decode cX6_isSmall 30 = .ok (.iconst 1, 1) := dk_4 (dk_at dksX6_isSmall_1 6 rfl rfl)
theorem dX6_isSmall_31 : decode cX6_isSmall 31 = .ok (.goto 4, 3) := dk_167 0 4 (dk_at dksX6_isSmall_1 7 rfl rfl)
theorem dX6_isSmall_34 : decode cX6_isSmall 34 = .ok (.iconst 0, 1) := dk_3 (dk_at dksX6_isSmall_1 10 rfl rfl)
theorem dX6_isSmall_35 : decode cX6_isSmall 35 = .ok (.ireturn, 1) := dk_172 (dk_at dksX6_isSmall_1 11 rfl rfl)
abbrev cX6_wordAt : ByteArray := prog_20_method_8_code
def yX6_wordAt : MethodName := ⟨RX6, "wordAt", "(II)I"⟩
def dkwX6_wordAt_5 : List UInt8 := [96, 96, 54, 4, 132, 3, 1, 167, 255, 138, 2, 172]
abbrev dktX6_wordAt_5 : List UInt8 := dkwX6_wordAt_5 ++ []
def dkwX6_wordAt_4 : List UInt8 := [167, 0, 4, 3, 54, 6, 132, 7, 1, 167, 255, 212, 21, 6, 153, 0, 5, 29, 172, 21, 4, 21, 5, 4]
abbrev dktX6_wordAt_4 : List UInt8 := dkwX6_wordAt_4 ++ dktX6_wordAt_5
def dkwX6_wordAt_3 : List UInt8 := [180, 0, 13, 21, 4, 21, 7, 96, 46, 42, 180, 0, 7, 27, 21, 7, 96, 46, 160, 0, 7, 4]
abbrev dktX6_wordAt_3 : List UInt8 := dkwX6_wordAt_3 ++ dktX6_wordAt_4
def dkwX6_wordAt_2 : List UInt8 := [167, 0, 4, 3, 54, 6, 3, 54, 7, 21, 7, 21, 5, 162, 0, 43, 21, 6, 153, 0, 38, 42]
abbrev dktX6_wordAt_2 : List UInt8 := dkwX6_wordAt_2 ++ dktX6_wordAt_3
def dkwX6_wordAt_1 : List UInt8 := [21, 5, 96, 46, 16, 32, 159, 0, 9, 132, 5, 1, 167, 255, 238, 21, 5, 28, 27, 100, 160, 0, 7, 4]
abbrev dktX6_wordAt_1 : List UInt8 := dkwX6_wordAt_1 ++ dktX6_wordAt_2
def dkwX6_wordAt_0 : List UInt8 := [3, 62, 3, 54, 4, 21, 4, 42, 180, 0, 13, 190, 162, 0, 114, 3, 54, 5, 42, 180, 0, 13, 21, 4]
abbrev dktX6_wordAt_0 : List UInt8 := dkwX6_wordAt_0 ++ dktX6_wordAt_1
theorem dksX6_wordAt_0 : cX6_wordAt.data.toList.drop 0 = dktX6_wordAt_0 := by decide +kernel
theorem dksX6_wordAt_1 : cX6_wordAt.data.toList.drop 24 = dktX6_wordAt_1 := dk_seg dksX6_wordAt_0 24 rfl rfl
theorem dksX6_wordAt_2 : cX6_wordAt.data.toList.drop 48 = dktX6_wordAt_2 := dk_seg dksX6_wordAt_1 24 rfl rfl
theorem dksX6_wordAt_3 : cX6_wordAt.data.toList.drop 70 = dktX6_wordAt_3 := dk_seg dksX6_wordAt_2 22 rfl rfl
theorem dksX6_wordAt_4 : cX6_wordAt.data.toList.drop 92 = dktX6_wordAt_4 := dk_seg dksX6_wordAt_3 22 rfl rfl
theorem dksX6_wordAt_5 : cX6_wordAt.data.toList.drop 116 = dktX6_wordAt_5 := dk_seg dksX6_wordAt_4 24 rfl rfl
theorem dX6_wordAt_0 : decode cX6_wordAt 0 = .ok (.iconst 0, 1) := dk_3 (dk_at dksX6_wordAt_0 0 rfl rfl)
theorem dX6_wordAt_1 : decode cX6_wordAt 1 = .ok (.istore_n 3, 1) := dk_62 (dk_at dksX6_wordAt_0 1 rfl rfl)
theorem dX6_wordAt_2 : decode cX6_wordAt 2 = .ok (.iconst 0, 1) := dk_3 (dk_at dksX6_wordAt_0 2 rfl rfl)
theorem dX6_wordAt_3 : decode cX6_wordAt 3 = .ok (.istore 4, 2) := dk_54 4 (dk_at dksX6_wordAt_0 3 rfl rfl)
theorem dX6_wordAt_5 : decode cX6_wordAt 5 = .ok (.iload 4, 2) := dk_21 4 (dk_at dksX6_wordAt_0 5 rfl rfl)
theorem dX6_wordAt_7 : decode cX6_wordAt 7 = .ok (.aload_n 0, 1) := dk_42 (dk_at dksX6_wordAt_0 7 rfl rfl)
theorem dX6_wordAt_8 : decode cX6_wordAt 8 = .ok (.getfield 13, 3) := dk_180 0 13 (dk_at dksX6_wordAt_0 8 rfl rfl)
theorem dX6_wordAt_11 : decode cX6_wordAt 11 = .ok (.arraylength, 1) := dk_190 (dk_at dksX6_wordAt_0 11 rfl rfl)
theorem dX6_wordAt_12 : decode cX6_wordAt 12 = .ok (.if_icmp .ge 114, 3) := dk_162 0 114 (dk_at dksX6_wordAt_0 12 rfl rfl)
theorem dX6_wordAt_15 : decode cX6_wordAt 15 = .ok (.iconst 0, 1) := dk_3 (dk_at dksX6_wordAt_0 15 rfl rfl)
theorem dX6_wordAt_16 : decode cX6_wordAt 16 = .ok (.istore 5, 2) := dk_54 5 (dk_at dksX6_wordAt_0 16 rfl rfl)
theorem dX6_wordAt_18 : decode cX6_wordAt 18 = .ok (.aload_n 0, 1) := dk_42 (dk_at dksX6_wordAt_0 18 rfl rfl)
theorem dX6_wordAt_19 : decode cX6_wordAt 19 = .ok (.getfield 13, 3) := dk_180 0 13 (dk_at dksX6_wordAt_0 19 rfl rfl)
theorem dX6_wordAt_22 : decode cX6_wordAt 22 = .ok (.iload 4, 2) := dk_21 4 (dk_at dksX6_wordAt_0 22 rfl rfl)
theorem dX6_wordAt_24 : decode cX6_wordAt 24 = .ok (.iload 5, 2) := dk_21 5 (dk_at dksX6_wordAt_1 0 rfl rfl)
theorem dX6_wordAt_26 : decode cX6_wordAt 26 = .ok (.iadd, 1) := dk_96 (dk_at dksX6_wordAt_1 2 rfl rfl)
theorem dX6_wordAt_27 : decode cX6_wordAt 27 = .ok (.iaload, 1) := dk_46 (dk_at dksX6_wordAt_1 3 rfl rfl)
theorem dX6_wordAt_28 : decode cX6_wordAt 28 = .ok (.bipush 32, 2) := dk_16 32 (dk_at dksX6_wordAt_1 4 rfl rfl)
theorem dX6_wordAt_30 : decode cX6_wordAt 30 = .ok (.if_icmp .eq 9, 3) := dk_159 0 9 (dk_at dksX6_wordAt_1 6 rfl rfl)
theorem dX6_wordAt_33 : decode cX6_wordAt 33 = .ok (.iinc 5 1, 3) := dk_132 5 1 (dk_at dksX6_wordAt_1 9 rfl rfl)
theorem dX6_wordAt_36 : decode cX6_wordAt 36 = .ok (.goto (-18), 3) := dk_167 255 238 (dk_at dksX6_wordAt_1 12 rfl rfl)
theorem dX6_wordAt_39 : decode cX6_wordAt 39 = .ok (.iload 5, 2) := dk_21 5 (dk_at dksX6_wordAt_1 15 rfl rfl)
theorem dX6_wordAt_41 : decode cX6_wordAt 41 = .ok (.iload_n 2, 1) := dk_28 (dk_at dksX6_wordAt_1 17 rfl rfl)
theorem dX6_wordAt_42 : decode cX6_wordAt 42 = .ok (.iload_n 1, 1) := dk_27 (dk_at dksX6_wordAt_1 18 rfl rfl)
theorem dX6_wordAt_43 : decode cX6_wordAt 43 = .ok (.isub, 1) := dk_100 (dk_at dksX6_wordAt_1 19 rfl rfl)
theorem dX6_wordAt_44 : decode cX6_wordAt 44 = .ok (.if_icmp .ne 7, 3) := dk_160 0 7 (dk_at dksX6_wordAt_1 20 rfl rfl)
theorem dX6_wordAt_47 : decode cX6_wordAt 47 = .ok (.iconst 1, 1) := dk_4 (dk_at dksX6_wordAt_1 23 rfl rfl)
theorem dX6_wordAt_48 : decode cX6_wordAt 48 = .ok (.goto 4, 3) := dk_167 0 4 (dk_at dksX6_wordAt_2 0 rfl rfl)
theorem dX6_wordAt_51 : decode cX6_wordAt 51 = .ok (.iconst 0, 1) := dk_3 (dk_at dksX6_wordAt_2 3 rfl rfl)
theorem dX6_wordAt_52 : decode cX6_wordAt 52 = .ok (.istore 6, 2) := dk_54 6 (dk_at dksX6_wordAt_2 4 rfl rfl)
theorem dX6_wordAt_54 : decode cX6_wordAt 54 = .ok (.iconst 0, 1) := dk_3 (dk_at dksX6_wordAt_2 6 rfl rfl)
theorem dX6_wordAt_55 : decode cX6_wordAt 55 = .ok (.istore 7, 2) := dk_54 7 (dk_at dksX6_wordAt_2 7 rfl rfl)
theorem dX6_wordAt_57 : decode cX6_wordAt 57 = .ok (.iload 7, 2) := dk_21 7 (dk_at dksX6_wordAt_2 9 rfl rfl)
theorem dX6_wordAt_59 : decode cX6_wordAt 59 = .ok (.iload 5, 2) := dk_21 5 (dk_at dksX6_wordAt_2 11 rfl rfl)
theorem dX6_wordAt_61 : decode cX6_wordAt 61 = .ok (.if_icmp .ge 43, 3) := dk_162 0 43 (dk_at dksX6_wordAt_2 13 rfl rfl)
theorem dX6_wordAt_64 : decode cX6_wordAt 64 = .ok (.iload 6, 2) := dk_21 6 (dk_at dksX6_wordAt_2 16 rfl rfl)
theorem dX6_wordAt_66 : decode cX6_wordAt 66 = .ok (.ifCond .eq 38, 3) := dk_153 0 38 (dk_at dksX6_wordAt_2 18 rfl rfl)
theorem dX6_wordAt_69 : decode cX6_wordAt 69 = .ok (.aload_n 0, 1) := dk_42 (dk_at dksX6_wordAt_2 21 rfl rfl)
theorem dX6_wordAt_70 : decode cX6_wordAt 70 = .ok (.getfield 13, 3) := dk_180 0 13 (dk_at dksX6_wordAt_3 0 rfl rfl)
theorem dX6_wordAt_73 : decode cX6_wordAt 73 = .ok (.iload 4, 2) := dk_21 4 (dk_at dksX6_wordAt_3 3 rfl rfl)
theorem dX6_wordAt_75 : decode cX6_wordAt 75 = .ok (.iload 7, 2) := dk_21 7 (dk_at dksX6_wordAt_3 5 rfl rfl)
theorem dX6_wordAt_77 : decode cX6_wordAt 77 = .ok (.iadd, 1) := dk_96 (dk_at dksX6_wordAt_3 7 rfl rfl)
theorem dX6_wordAt_78 : decode cX6_wordAt 78 = .ok (.iaload, 1) := dk_46 (dk_at dksX6_wordAt_3 8 rfl rfl)
theorem dX6_wordAt_79 : decode cX6_wordAt 79 = .ok (.aload_n 0, 1) := dk_42 (dk_at dksX6_wordAt_3 9 rfl rfl)
theorem dX6_wordAt_80 : decode cX6_wordAt 80 = .ok (.getfield 7, 3) := dk_180 0 7 (dk_at dksX6_wordAt_3 10 rfl rfl)
theorem dX6_wordAt_83 : decode cX6_wordAt 83 = .ok (.iload_n 1, 1) := dk_27 (dk_at dksX6_wordAt_3 13 rfl rfl)
theorem dX6_wordAt_84 : decode cX6_wordAt 84 = .ok (.iload 7, 2) := dk_21 7 (dk_at dksX6_wordAt_3 14 rfl rfl)
theorem dX6_wordAt_86 : decode cX6_wordAt 86 = .ok (.iadd, 1) := dk_96 (dk_at dksX6_wordAt_3 16 rfl rfl)
theorem dX6_wordAt_87 : decode cX6_wordAt 87 = .ok (.iaload, 1) := dk_46 (dk_at dksX6_wordAt_3 17 rfl rfl)
theorem dX6_wordAt_88 : decode cX6_wordAt 88 = .ok (.if_icmp .ne 7, 3) := dk_160 0 7 (dk_at dksX6_wordAt_3 18 rfl rfl)
theorem dX6_wordAt_91 : decode cX6_wordAt 91 = .ok (.iconst 1, 1) := dk_4 (dk_at dksX6_wordAt_3 21 rfl rfl)
theorem dX6_wordAt_92 : decode cX6_wordAt 92 = .ok (.goto 4, 3) := dk_167 0 4 (dk_at dksX6_wordAt_4 0 rfl rfl)
theorem dX6_wordAt_95 : decode cX6_wordAt 95 = .ok (.iconst 0, 1) := dk_3 (dk_at dksX6_wordAt_4 3 rfl rfl)
theorem dX6_wordAt_96 : decode cX6_wordAt 96 = .ok (.istore 6, 2) := dk_54 6 (dk_at dksX6_wordAt_4 4 rfl rfl)
theorem dX6_wordAt_98 : decode cX6_wordAt 98 = .ok (.iinc 7 1, 3) := dk_132 7 1 (dk_at dksX6_wordAt_4 6 rfl rfl)
theorem dX6_wordAt_101 : decode cX6_wordAt 101 = .ok (.goto (-44), 3) := dk_167 255 212 (dk_at dksX6_wordAt_4 9 rfl rfl)
theorem dX6_wordAt_104 : decode cX6_wordAt 104 = .ok (.iload 6, 2) := dk_21 6 (dk_at dksX6_wordAt_4 12 rfl rfl)
theorem dX6_wordAt_106 : decode cX6_wordAt 106 = .ok (.ifCond .eq 5, 3) := dk_153 0 5 (dk_at dksX6_wordAt_4 14 rfl rfl)
theorem dX6_wordAt_109 : decode cX6_wordAt 109 = .ok (.iload_n 3, 1) := dk_29 (dk_at dksX6_wordAt_4 17 rfl rfl)
theorem dX6_wordAt_110 : decode cX6_wordAt 110 = .ok (.ireturn, 1) := dk_172 (dk_at dksX6_wordAt_4 18 rfl rfl)
theorem dX6_wordAt_111 : decode cX6_wordAt 111 = .ok (.iload 4, 2) := dk_21 4 (dk_at dksX6_wordAt_4 19 rfl rfl)
theorem dX6_wordAt_113 : decode cX6_wordAt 113 = .ok (.iload 5, 2) := dk_21 5 (dk_at dksX6_wordAt_4 21 rfl rfl)
theorem dX6_wordAt_115 : decode cX6_wordAt 115 = .ok (.iconst 1, 1) := dk_4 (dk_at dksX6_wordAt_4 23 rfl rfl)
theorem dX6_wordAt_116 : decode cX6_wordAt 116 = .ok (.iadd, 1) := dk_96 (dk_at dksX6_wordAt_5 0 rfl rfl)
theorem dX6_wordAt_117 : decode cX6_wordAt 117 = .ok (.iadd, 1) := dk_96 (dk_at dksX6_wordAt_5 1 rfl rfl)
theorem dX6_wordAt_118 : decode cX6_wordAt 118 = .ok (.istore 4, 2) := dk_54 4 (dk_at dksX6_wordAt_5 2 rfl rfl)
theorem dX6_wordAt_120 : decode cX6_wordAt 120 = .ok (.iinc 3 1, 3) := dk_132 3 1 (dk_at dksX6_wordAt_5 4 rfl rfl)
theorem dX6_wordAt_123 : decode cX6_wordAt 123 = .ok (.goto (-118), 3) := dk_167 255 138 (dk_at dksX6_wordAt_5 7 rfl rfl)
theorem dX6_wordAt_126 : decode cX6_wordAt 126 = .ok (.iconst (-1), 1) := dk_2 (dk_at dksX6_wordAt_5 10 rfl rfl)
theorem dX6_wordAt_127 : decode cX6_wordAt 127 = .ok (.ireturn, 1) := dk_172 (dk_at dksX6_wordAt_5 11 rfl rfl)
abbrev cX6_packed : ByteArray := prog_20_method_13_code
def yX6_packed : MethodName := ⟨RX6, "packed", "(II)I"⟩
def dkwX6_packed_1 : List UInt8 := [180, 0, 7, 21, 4, 46, 16, 96, 100, 167, 0, 4, 3, 128, 62, 132, 4, 1, 167, 255, 219, 29, 172]
abbrev dktX6_packed_1 : List UInt8 := dkwX6_packed_1 ++ []
def dkwX6_packed_0 : List UInt8 := [3, 62, 27, 54, 4, 21, 4, 27, 16, 6, 96, 162, 0, 34, 29, 8, 120, 21, 4, 28, 162, 0, 16, 42]
abbrev dktX6_packed_0 : List UInt8 := dkwX6_packed_0 ++ dktX6_packed_1
theorem dksX6_packed_0 : cX6_packed.data.toList.drop 0 = dktX6_packed_0 := by decide +kernel
theorem dksX6_packed_1 : cX6_packed.data.toList.drop 24 = dktX6_packed_1 := dk_seg dksX6_packed_0 24 rfl rfl
theorem dX6_packed_0 : decode cX6_packed 0 = .ok (.iconst 0, 1) := dk_3 (dk_at dksX6_packed_0 0 rfl rfl)
theorem dX6_packed_1 : decode cX6_packed 1 = .ok (.istore_n 3, 1) := dk_62 (dk_at dksX6_packed_0 1 rfl rfl)
theorem dX6_packed_2 : decode cX6_packed 2 = .ok (.iload_n 1, 1) := dk_27 (dk_at dksX6_packed_0 2 rfl rfl)
theorem dX6_packed_3 : decode cX6_packed 3 = .ok (.istore 4, 2) := dk_54 4 (dk_at dksX6_packed_0 3 rfl rfl)
theorem dX6_packed_5 : decode cX6_packed 5 = .ok (.iload 4, 2) := dk_21 4 (dk_at dksX6_packed_0 5 rfl rfl)
theorem dX6_packed_7 : decode cX6_packed 7 = .ok (.iload_n 1, 1) := dk_27 (dk_at dksX6_packed_0 7 rfl rfl)
theorem dX6_packed_8 : decode cX6_packed 8 = .ok (.bipush 6, 2) := dk_16 6 (dk_at dksX6_packed_0 8 rfl rfl)
theorem dX6_packed_10 : decode cX6_packed 10 = .ok (.iadd, 1) := dk_96 (dk_at dksX6_packed_0 10 rfl rfl)
theorem dX6_packed_11 : decode cX6_packed 11 = .ok (.if_icmp .ge 34, 3) := dk_162 0 34 (dk_at dksX6_packed_0 11 rfl rfl)
theorem dX6_packed_14 : decode cX6_packed 14 = .ok (.iload_n 3, 1) := dk_29 (dk_at dksX6_packed_0 14 rfl rfl)
theorem dX6_packed_15 : decode cX6_packed 15 = .ok (.iconst 5, 1) := dk_8 (dk_at dksX6_packed_0 15 rfl rfl)
theorem dX6_packed_16 : decode cX6_packed 16 = .ok (.ishl, 1) := dk_120 (dk_at dksX6_packed_0 16 rfl rfl)
theorem dX6_packed_17 : decode cX6_packed 17 = .ok (.iload 4, 2) := dk_21 4 (dk_at dksX6_packed_0 17 rfl rfl)
theorem dX6_packed_19 : decode cX6_packed 19 = .ok (.iload_n 2, 1) := dk_28 (dk_at dksX6_packed_0 19 rfl rfl)
theorem dX6_packed_20 : decode cX6_packed 20 = .ok (.if_icmp .ge 16, 3) := dk_162 0 16 (dk_at dksX6_packed_0 20 rfl rfl)
theorem dX6_packed_23 : decode cX6_packed 23 = .ok (.aload_n 0, 1) := dk_42 (dk_at dksX6_packed_0 23 rfl rfl)
theorem dX6_packed_24 : decode cX6_packed 24 = .ok (.getfield 7, 3) := dk_180 0 7 (dk_at dksX6_packed_1 0 rfl rfl)
theorem dX6_packed_27 : decode cX6_packed 27 = .ok (.iload 4, 2) := dk_21 4 (dk_at dksX6_packed_1 3 rfl rfl)
theorem dX6_packed_29 : decode cX6_packed 29 = .ok (.iaload, 1) := dk_46 (dk_at dksX6_packed_1 5 rfl rfl)
theorem dX6_packed_30 : decode cX6_packed 30 = .ok (.bipush 96, 2) := dk_16 96 (dk_at dksX6_packed_1 6 rfl rfl)
theorem dX6_packed_32 : decode cX6_packed 32 = .ok (.isub, 1) := dk_100 (dk_at dksX6_packed_1 8 rfl rfl)
theorem dX6_packed_33 : decode cX6_packed 33 = .ok (.goto 4, 3) := dk_167 0 4 (dk_at dksX6_packed_1 9 rfl rfl)
theorem dX6_packed_36 : decode cX6_packed 36 = .ok (.iconst 0, 1) := dk_3 (dk_at dksX6_packed_1 12 rfl rfl)
theorem dX6_packed_37 : decode cX6_packed 37 = .ok (.ior, 1) := dk_128 (dk_at dksX6_packed_1 13 rfl rfl)
theorem dX6_packed_38 : decode cX6_packed 38 = .ok (.istore_n 3, 1) := dk_62 (dk_at dksX6_packed_1 14 rfl rfl)
theorem dX6_packed_39 : decode cX6_packed 39 = .ok (.iinc 4 1, 3) := dk_132 4 1 (dk_at dksX6_packed_1 15 rfl rfl)
theorem dX6_packed_42 : decode cX6_packed 42 = .ok (.goto (-37), 3) := dk_167 255 219 (dk_at dksX6_packed_1 18 rfl rfl)
theorem dX6_packed_45 : decode cX6_packed 45 = .ok (.iload_n 3, 1) := dk_29 (dk_at dksX6_packed_1 21 rfl rfl)
theorem dX6_packed_46 : decode cX6_packed 46 = .ok (.ireturn, 1) := dk_172 (dk_at dksX6_packed_1 22 rfl rfl)
abbrev cX6_isDigit : ByteArray := prog_20_method_10_code
def yX6_isDigit : MethodName := ⟨RX6, "isDigit", "(I)Z"⟩
def dkwX6_isDigit_1 : List UInt8 := [46, 16, 57, 163, 0, 7, 4, 167, 0, 4, 3, 172]
abbrev dktX6_isDigit_1 : List UInt8 := dkwX6_isDigit_1 ++ []
def dkwX6_isDigit_0 : List UInt8 := [27, 42, 180, 0, 133, 162, 0, 29, 42, 180, 0, 7, 27, 46, 16, 48, 161, 0, 18, 42, 180, 0, 7, 27]
abbrev dktX6_isDigit_0 : List UInt8 := dkwX6_isDigit_0 ++ dktX6_isDigit_1
theorem dksX6_isDigit_0 : cX6_isDigit.data.toList.drop 0 = dktX6_isDigit_0 := by decide +kernel
theorem dksX6_isDigit_1 : cX6_isDigit.data.toList.drop 24 = dktX6_isDigit_1 := dk_seg dksX6_isDigit_0 24 rfl rfl
theorem dX6_isDigit_0 : decode cX6_isDigit 0 = .ok (.iload_n 1, 1) := dk_27 (dk_at dksX6_isDigit_0 0 rfl rfl)
theorem dX6_isDigit_1 : decode cX6_isDigit 1 = .ok (.aload_n 0, 1) := dk_42 (dk_at dksX6_isDigit_0 1 rfl rfl)
theorem dX6_isDigit_2 : decode cX6_isDigit 2 = .ok (.getfield 133, 3) := dk_180 0 133 (dk_at dksX6_isDigit_0 2 rfl rfl)
theorem dX6_isDigit_5 : decode cX6_isDigit 5 = .ok (.if_icmp .ge 29, 3) := dk_162 0 29 (dk_at dksX6_isDigit_0 5 rfl rfl)
theorem dX6_isDigit_8 : decode cX6_isDigit 8 = .ok (.aload_n 0, 1) := dk_42 (dk_at dksX6_isDigit_0 8 rfl rfl)
theorem dX6_isDigit_9 : decode cX6_isDigit 9 = .ok (.getfield 7, 3) := dk_180 0 7 (dk_at dksX6_isDigit_0 9 rfl rfl)
theorem dX6_isDigit_12 : decode cX6_isDigit 12 = .ok (.iload_n 1, 1) := dk_27 (dk_at dksX6_isDigit_0 12 rfl rfl)
theorem dX6_isDigit_13 : decode cX6_isDigit 13 = .ok (.iaload, 1) := dk_46 (dk_at dksX6_isDigit_0 13 rfl rfl)
theorem dX6_isDigit_14 : decode cX6_isDigit 14 = .ok (.bipush 48, 2) := dk_16 48 (dk_at dksX6_isDigit_0 14 rfl rfl)
theorem dX6_isDigit_16 : decode cX6_isDigit 16 = .ok (.if_icmp .lt 18, 3) := dk_161 0 18 (dk_at dksX6_isDigit_0 16 rfl rfl)
theorem dX6_isDigit_19 : decode cX6_isDigit 19 = .ok (.aload_n 0, 1) := dk_42 (dk_at dksX6_isDigit_0 19 rfl rfl)
theorem dX6_isDigit_20 : decode cX6_isDigit 20 = .ok (.getfield 7, 3) := dk_180 0 7 (dk_at dksX6_isDigit_0 20 rfl rfl)
theorem dX6_isDigit_23 : decode cX6_isDigit 23 = .ok (.iload_n 1, 1) := dk_27 (dk_at dksX6_isDigit_0 23 rfl rfl)
theorem dX6_isDigit_24 : decode cX6_isDigit 24 = .ok (.iaload, 1) := dk_46 (dk_at dksX6_isDigit_1 0 rfl rfl)
theorem dX6_isDigit_25 : decode cX6_isDigit 25 = .ok (.bipush 57, 2) := dk_16 57 (dk_at dksX6_isDigit_1 1 rfl rfl)
theorem dX6_isDigit_27 : decode cX6_isDigit 27 = .ok (.if_icmp .gt 7, 3) := dk_163 0 7 (dk_at dksX6_isDigit_1 3 rfl rfl)
theorem dX6_isDigit_30 : decode cX6_isDigit 30 = .ok (.iconst 1, 1) := dk_4 (dk_at dksX6_isDigit_1 6 rfl rfl)
theorem dX6_isDigit_31 : decode cX6_isDigit 31 = .ok (.goto 4, 3) := dk_167 0 4 (dk_at dksX6_isDigit_1 7 rfl rfl)
theorem dX6_isDigit_34 : decode cX6_isDigit 34 = .ok (.iconst 0, 1) := dk_3 (dk_at dksX6_isDigit_1 10 rfl rfl)
theorem dX6_isDigit_35 : decode cX6_isDigit 35 = .ok (.ireturn, 1) := dk_172 (dk_at dksX6_isDigit_1 11 rfl rfl)
abbrev cX6_signToken : ByteArray := prog_20_method_12_code
def yX6_signToken : MethodName := ⟨RX6, "signToken", "()V"⟩
def dkwX6_signToken_12 : List UInt8 := [167, 0, 5, 16, 6, 181, 0, 139, 177]
abbrev dktX6_signToken_12 : List UInt8 := dkwX6_signToken_12 ++ []
def dkwX6_signToken_11 : List UInt8 := [159, 0, 12, 42, 180, 0, 150, 16, 37, 160, 0, 7, 4, 167, 0, 4, 3, 60, 42, 27, 153, 0, 7, 7]
abbrev dktX6_signToken_11 : List UInt8 := dkwX6_signToken_11 ++ dktX6_signToken_12
def dkwX6_signToken_10 : List UInt8 := [180, 0, 150, 16, 45, 159, 0, 30, 42, 180, 0, 150, 16, 42, 159, 0, 21, 42, 180, 0, 150, 16, 47]
abbrev dktX6_signToken_10 : List UInt8 := dkwX6_signToken_10 ++ dktX6_signToken_11
def dkwX6_signToken_9 : List UInt8 := [16, 40, 159, 0, 57, 42, 180, 0, 150, 16, 41, 159, 0, 48, 42, 180, 0, 150, 16, 43, 159, 0, 39, 42]
abbrev dktX6_signToken_9 : List UInt8 := dkwX6_signToken_9 ++ dktX6_signToken_10
def dkwX6_signToken_8 : List UInt8 := [167, 0, 4, 8, 181, 0, 150, 167, 0, 95, 42, 180, 0, 150, 16, 59, 159, 0, 66, 42, 180, 0, 150]
abbrev dktX6_signToken_8 : List UInt8 := dkwX6_signToken_8 ++ dktX6_signToken_9
def dkwX6_signToken_7 : List UInt8 := [153, 0, 7, 4, 167, 0, 24, 29, 153, 0, 7, 6, 167, 0, 16, 3, 167, 0, 12, 28, 153, 0, 7, 7]
abbrev dktX6_signToken_7 : List UInt8 := dkwX6_signToken_7 ++ dktX6_signToken_8
def dkwX6_signToken_6 : List UInt8 := [180, 0, 150, 16, 61, 160, 0, 7, 5, 167, 0, 41, 42, 180, 0, 150, 16, 60, 160, 0, 23, 28]
abbrev dktX6_signToken_6 : List UInt8 := dkwX6_signToken_6 ++ dktX6_signToken_7
def dkwX6_signToken_5 : List UInt8 := [154, 0, 7, 29, 153, 0, 13, 42, 89, 180, 0, 136, 4, 96, 181, 0, 136, 42, 8, 181, 0, 139, 42, 42]
abbrev dktX6_signToken_5 : List UInt8 := dkwX6_signToken_5 ++ dktX6_signToken_6
def dkwX6_signToken_4 : List UInt8 := [3, 61, 42, 180, 0, 150, 16, 60, 160, 0, 13, 27, 16, 62, 160, 0, 7, 4, 167, 0, 4, 3, 62, 28]
abbrev dktX6_signToken_4 : List UInt8 := dkwX6_signToken_4 ++ dktX6_signToken_5
def dkwX6_signToken_3 : List UInt8 := [167, 0, 4, 3, 60, 42, 180, 0, 150, 16, 61, 159, 0, 13, 27, 16, 61, 160, 0, 7, 4, 167, 0, 4]
abbrev dktX6_signToken_3 : List UInt8 := dkwX6_signToken_3 ++ dktX6_signToken_4
def dkwX6_signToken_2 : List UInt8 := [160, 0, 151, 42, 180, 0, 136, 42, 180, 0, 133, 162, 0, 15, 42, 180, 0, 7, 42, 180, 0, 136, 46]
abbrev dktX6_signToken_2 : List UInt8 := dkwX6_signToken_2 ++ dktX6_signToken_3
def dkwX6_signToken_1 : List UInt8 := [180, 0, 150, 16, 60, 159, 0, 21, 42, 180, 0, 150, 16, 62, 159, 0, 12, 42, 180, 0, 150, 16, 61]
abbrev dktX6_signToken_1 : List UInt8 := dkwX6_signToken_1 ++ dktX6_signToken_2
def dkwX6_signToken_0 : List UInt8 := [42, 42, 180, 0, 7, 42, 180, 0, 136, 46, 181, 0, 150, 42, 89, 180, 0, 136, 4, 96, 181, 0, 136, 42]
abbrev dktX6_signToken_0 : List UInt8 := dkwX6_signToken_0 ++ dktX6_signToken_1
theorem dksX6_signToken_0 : cX6_signToken.data.toList.drop 0 = dktX6_signToken_0 := by decide +kernel
theorem dksX6_signToken_1 : cX6_signToken.data.toList.drop 24 = dktX6_signToken_1 := dk_seg dksX6_signToken_0 24 rfl rfl
theorem dksX6_signToken_2 : cX6_signToken.data.toList.drop 47 = dktX6_signToken_2 := dk_seg dksX6_signToken_1 23 rfl rfl
theorem dksX6_signToken_3 : cX6_signToken.data.toList.drop 70 = dktX6_signToken_3 := dk_seg dksX6_signToken_2 23 rfl rfl
theorem dksX6_signToken_4 : cX6_signToken.data.toList.drop 94 = dktX6_signToken_4 := dk_seg dksX6_signToken_3 24 rfl rfl
theorem dksX6_signToken_5 : cX6_signToken.data.toList.drop 118 = dktX6_signToken_5 := dk_seg dksX6_signToken_4 24 rfl rfl
theorem dksX6_signToken_6 : cX6_signToken.data.toList.drop 142 = dktX6_signToken_6 := dk_seg dksX6_signToken_5 24 rfl rfl
theorem dksX6_signToken_7 : cX6_signToken.data.toList.drop 164 = dktX6_signToken_7 := dk_seg dksX6_signToken_6 22 rfl rfl
theorem dksX6_signToken_8 : cX6_signToken.data.toList.drop 188 = dktX6_signToken_8 := dk_seg dksX6_signToken_7 24 rfl rfl
theorem dksX6_signToken_9 : cX6_signToken.data.toList.drop 211 = dktX6_signToken_9 := dk_seg dksX6_signToken_8 23 rfl rfl
theorem dksX6_signToken_10 : cX6_signToken.data.toList.drop 235 = dktX6_signToken_10 := dk_seg dksX6_signToken_9 24 rfl rfl
theorem dksX6_signToken_11 : cX6_signToken.data.toList.drop 258 = dktX6_signToken_11 := dk_seg dksX6_signToken_10 23 rfl rfl
theorem dksX6_signToken_12 : cX6_signToken.data.toList.drop 282 = dktX6_signToken_12 := dk_seg dksX6_signToken_11 24 rfl rfl
theorem dX6_signToken_0 : decode cX6_signToken 0 = .ok (.aload_n 0, 1) := dk_42 (dk_at dksX6_signToken_0 0 rfl rfl)
theorem dX6_signToken_1 : decode cX6_signToken 1 = .ok (.aload_n 0, 1) := dk_42 (dk_at dksX6_signToken_0 1 rfl rfl)
theorem dX6_signToken_2 : decode cX6_signToken 2 = .ok (.getfield 7, 3) := dk_180 0 7 (dk_at dksX6_signToken_0 2 rfl rfl)
theorem dX6_signToken_5 : decode cX6_signToken 5 = .ok (.aload_n 0, 1) := dk_42 (dk_at dksX6_signToken_0 5 rfl rfl)
theorem dX6_signToken_6 : decode cX6_signToken 6 = .ok (.getfield 136, 3) := dk_180 0 136 (dk_at dksX6_signToken_0 6 rfl rfl)
theorem dX6_signToken_9 : decode cX6_signToken 9 = .ok (.iaload, 1) := dk_46 (dk_at dksX6_signToken_0 9 rfl rfl)
theorem dX6_signToken_10 : decode cX6_signToken 10 = .ok (.putfield 150, 3) := dk_181 0 150 (dk_at dksX6_signToken_0 10 rfl rfl)
theorem dX6_signToken_13 : decode cX6_signToken 13 = .ok (.aload_n 0, 1) := dk_42 (dk_at dksX6_signToken_0 13 rfl rfl)
theorem dX6_signToken_14 : decode cX6_signToken 14 = .ok (.dup, 1) := dk_89 (dk_at dksX6_signToken_0 14 rfl rfl)
theorem dX6_signToken_15 : decode cX6_signToken 15 = .ok (.getfield 136, 3) := dk_180 0 136 (dk_at dksX6_signToken_0 15 rfl rfl)
theorem dX6_signToken_18 : decode cX6_signToken 18 = .ok (.iconst 1, 1) := dk_4 (dk_at dksX6_signToken_0 18 rfl rfl)
theorem dX6_signToken_19 : decode cX6_signToken 19 = .ok (.iadd, 1) := dk_96 (dk_at dksX6_signToken_0 19 rfl rfl)
theorem dX6_signToken_20 : decode cX6_signToken 20 = .ok (.putfield 136, 3) := dk_181 0 136 (dk_at dksX6_signToken_0 20 rfl rfl)
theorem dX6_signToken_23 : decode cX6_signToken 23 = .ok (.aload_n 0, 1) := dk_42 (dk_at dksX6_signToken_0 23 rfl rfl)
theorem dX6_signToken_24 : decode cX6_signToken 24 = .ok (.getfield 150, 3) := dk_180 0 150 (dk_at dksX6_signToken_1 0 rfl rfl)
theorem dX6_signToken_27 : decode cX6_signToken 27 = .ok (.bipush 60, 2) := dk_16 60 (dk_at dksX6_signToken_1 3 rfl rfl)
theorem dX6_signToken_29 : decode cX6_signToken 29 = .ok (.if_icmp .eq 21, 3) := dk_159 0 21 (dk_at dksX6_signToken_1 5 rfl rfl)
theorem dX6_signToken_32 : decode cX6_signToken 32 = .ok (.aload_n 0, 1) := dk_42 (dk_at dksX6_signToken_1 8 rfl rfl)
theorem dX6_signToken_33 : decode cX6_signToken 33 = .ok (.getfield 150, 3) := dk_180 0 150 (dk_at dksX6_signToken_1 9 rfl rfl)
theorem dX6_signToken_36 : decode cX6_signToken 36 = .ok (.bipush 62, 2) := dk_16 62 (dk_at dksX6_signToken_1 12 rfl rfl)
theorem dX6_signToken_38 : decode cX6_signToken 38 = .ok (.if_icmp .eq 12, 3) := dk_159 0 12 (dk_at dksX6_signToken_1 14 rfl rfl)
theorem dX6_signToken_41 : decode cX6_signToken 41 = .ok (.aload_n 0, 1) := dk_42 (dk_at dksX6_signToken_1 17 rfl rfl)
theorem dX6_signToken_42 : decode cX6_signToken 42 = .ok (.getfield 150, 3) := dk_180 0 150 (dk_at dksX6_signToken_1 18 rfl rfl)
theorem dX6_signToken_45 : decode cX6_signToken 45 = .ok (.bipush 61, 2) := dk_16 61 (dk_at dksX6_signToken_1 21 rfl rfl)
theorem dX6_signToken_47 : decode cX6_signToken 47 = .ok (.if_icmp .ne 151, 3) := dk_160 0 151 (dk_at dksX6_signToken_2 0 rfl rfl)
theorem dX6_signToken_50 : decode cX6_signToken 50 = .ok (.aload_n 0, 1) := dk_42 (dk_at dksX6_signToken_2 3 rfl rfl)
theorem dX6_signToken_51 : decode cX6_signToken 51 = .ok (.getfield 136, 3) := dk_180 0 136 (dk_at dksX6_signToken_2 4 rfl rfl)
theorem dX6_signToken_54 : decode cX6_signToken 54 = .ok (.aload_n 0, 1) := dk_42 (dk_at dksX6_signToken_2 7 rfl rfl)
theorem dX6_signToken_55 : decode cX6_signToken 55 = .ok (.getfield 133, 3) := dk_180 0 133 (dk_at dksX6_signToken_2 8 rfl rfl)
theorem dX6_signToken_58 : decode cX6_signToken 58 = .ok (.if_icmp .ge 15, 3) := dk_162 0 15 (dk_at dksX6_signToken_2 11 rfl rfl)
theorem dX6_signToken_61 : decode cX6_signToken 61 = .ok (.aload_n 0, 1) := dk_42 (dk_at dksX6_signToken_2 14 rfl rfl)
theorem dX6_signToken_62 : decode cX6_signToken 62 = .ok (.getfield 7, 3) := dk_180 0 7 (dk_at dksX6_signToken_2 15 rfl rfl)
theorem dX6_signToken_65 : decode cX6_signToken 65 = .ok (.aload_n 0, 1) := dk_42 (dk_at dksX6_signToken_2 18 rfl rfl)
theorem dX6_signToken_66 : decode cX6_signToken 66 = .ok (.getfield 136, 3) := dk_180 0 136 (dk_at dksX6_signToken_2 19 rfl rfl)
theorem dX6_signToken_69 : decode cX6_signToken 69 = .ok (.iaload, 1) := dk_46 (dk_at dksX6_signToken_2 22 rfl rfl)
theorem dX6_signToken_70 : decode cX6_signToken 70 = .ok (.goto 4, 3) := dk_167 0 4 (dk_at dksX6_signToken_3 0 rfl rfl)
theorem dX6_signToken_73 : decode cX6_signToken 73 = .ok (.iconst 0, 1) := dk_3 (dk_at dksX6_signToken_3 3 rfl rfl)
theorem dX6_signToken_74 : decode cX6_signToken 74 = .ok (.istore_n 1, 1) := dk_60 (dk_at dksX6_signToken_3 4 rfl rfl)
theorem dX6_signToken_75 : decode cX6_signToken 75 = .ok (.aload_n 0, 1) := dk_42 (dk_at dksX6_signToken_3 5 rfl rfl)
theorem dX6_signToken_76 : decode cX6_signToken 76 = .ok (.getfield 150, 3) := dk_180 0 150 (dk_at dksX6_signToken_3 6 rfl rfl)
theorem dX6_signToken_79 : decode cX6_signToken 79 = .ok (.bipush 61, 2) := dk_16 61 (dk_at dksX6_signToken_3 9 rfl rfl)
theorem dX6_signToken_81 : decode cX6_signToken 81 = .ok (.if_icmp .eq 13, 3) := dk_159 0 13 (dk_at dksX6_signToken_3 11 rfl rfl)
theorem dX6_signToken_84 : decode cX6_signToken 84 = .ok (.iload_n 1, 1) := dk_27 (dk_at dksX6_signToken_3 14 rfl rfl)
theorem dX6_signToken_85 : decode cX6_signToken 85 = .ok (.bipush 61, 2) := dk_16 61 (dk_at dksX6_signToken_3 15 rfl rfl)
theorem dX6_signToken_87 : decode cX6_signToken 87 = .ok (.if_icmp .ne 7, 3) := dk_160 0 7 (dk_at dksX6_signToken_3 17 rfl rfl)
theorem dX6_signToken_90 : decode cX6_signToken 90 = .ok (.iconst 1, 1) := dk_4 (dk_at dksX6_signToken_3 20 rfl rfl)
theorem dX6_signToken_91 : decode cX6_signToken 91 = .ok (.goto 4, 3) := dk_167 0 4 (dk_at dksX6_signToken_3 21 rfl rfl)
theorem dX6_signToken_94 : decode cX6_signToken 94 = .ok (.iconst 0, 1) := dk_3 (dk_at dksX6_signToken_4 0 rfl rfl)
theorem dX6_signToken_95 : decode cX6_signToken 95 = .ok (.istore_n 2, 1) := dk_61 (dk_at dksX6_signToken_4 1 rfl rfl)
theorem dX6_signToken_96 : decode cX6_signToken 96 = .ok (.aload_n 0, 1) := dk_42 (dk_at dksX6_signToken_4 2 rfl rfl)
theorem dX6_signToken_97 : decode cX6_signToken 97 = .ok (.getfield 150, 3) := dk_180 0 150 (dk_at dksX6_signToken_4 3 rfl rfl)
theorem dX6_signToken_100 : decode cX6_signToken 100 = .ok (.bipush 60, 2) := dk_16 60 (dk_at dksX6_signToken_4 6 rfl rfl)
theorem dX6_signToken_102 : decode cX6_signToken 102 = .ok (.if_icmp .ne 13, 3) := dk_160 0 13 (dk_at dksX6_signToken_4 8 rfl rfl)
theorem dX6_signToken_105 : decode cX6_signToken 105 = .ok (.iload_n 1, 1) := dk_27 (dk_at dksX6_signToken_4 11 rfl rfl)
theorem dX6_signToken_106 : decode cX6_signToken 106 = .ok (.bipush 62, 2) := dk_16 62 (dk_at dksX6_signToken_4 12 rfl rfl)
theorem dX6_signToken_108 : decode cX6_signToken 108 = .ok (.if_icmp .ne 7, 3) := dk_160 0 7 (dk_at dksX6_signToken_4 14 rfl rfl)
theorem dX6_signToken_111 : decode cX6_signToken 111 = .ok (.iconst 1, 1) := dk_4 (dk_at dksX6_signToken_4 17 rfl rfl)
theorem dX6_signToken_112 : decode cX6_signToken 112 = .ok (.goto 4, 3) := dk_167 0 4 (dk_at dksX6_signToken_4 18 rfl rfl)
theorem dX6_signToken_115 : decode cX6_signToken 115 = .ok (.iconst 0, 1) := dk_3 (dk_at dksX6_signToken_4 21 rfl rfl)
theorem dX6_signToken_116 : decode cX6_signToken 116 = .ok (.istore_n 3, 1) := dk_62 (dk_at dksX6_signToken_4 22 rfl rfl)
theorem dX6_signToken_117 : decode cX6_signToken 117 = .ok (.iload_n 2, 1) := dk_28 (dk_at dksX6_signToken_4 23 rfl rfl)
theorem dX6_signToken_118 : decode cX6_signToken 118 = .ok (.ifCond .ne 7, 3) := dk_154 0 7 (dk_at dksX6_signToken_5 0 rfl rfl)
theorem dX6_signToken_121 : decode cX6_signToken 121 = .ok (.iload_n 3, 1) := dk_29 (dk_at dksX6_signToken_5 3 rfl rfl)
theorem dX6_signToken_122 : decode cX6_signToken 122 = .ok (.ifCond .eq 13, 3) := dk_153 0 13 (dk_at dksX6_signToken_5 4 rfl rfl)
theorem dX6_signToken_125 : decode cX6_signToken 125 = .ok (.aload_n 0, 1) := dk_42 (dk_at dksX6_signToken_5 7 rfl rfl)
theorem dX6_signToken_126 : decode cX6_signToken 126 = .ok (.dup, 1) := dk_89 (dk_at dksX6_signToken_5 8 rfl rfl)
theorem dX6_signToken_127 : decode cX6_signToken 127 = .ok (.getfield 136, 3) := dk_180 0 136 (dk_at dksX6_signToken_5 9 rfl rfl)
theorem dX6_signToken_130 : decode cX6_signToken 130 = .ok (.iconst 1, 1) := dk_4 (dk_at dksX6_signToken_5 12 rfl rfl)
theorem dX6_signToken_131 : decode cX6_signToken 131 = .ok (.iadd, 1) := dk_96 (dk_at dksX6_signToken_5 13 rfl rfl)
theorem dX6_signToken_132 : decode cX6_signToken 132 = .ok (.putfield 136, 3) := dk_181 0 136 (dk_at dksX6_signToken_5 14 rfl rfl)
theorem dX6_signToken_135 : decode cX6_signToken 135 = .ok (.aload_n 0, 1) := dk_42 (dk_at dksX6_signToken_5 17 rfl rfl)
theorem dX6_signToken_136 : decode cX6_signToken 136 = .ok (.iconst 5, 1) := dk_8 (dk_at dksX6_signToken_5 18 rfl rfl)
theorem dX6_signToken_137 : decode cX6_signToken 137 = .ok (.putfield 139, 3) := dk_181 0 139 (dk_at dksX6_signToken_5 19 rfl rfl)
theorem dX6_signToken_140 : decode cX6_signToken 140 = .ok (.aload_n 0, 1) := dk_42 (dk_at dksX6_signToken_5 22 rfl rfl)
theorem dX6_signToken_141 : decode cX6_signToken 141 = .ok (.aload_n 0, 1) := dk_42 (dk_at dksX6_signToken_5 23 rfl rfl)
theorem dX6_signToken_142 : decode cX6_signToken 142 = .ok (.getfield 150, 3) := dk_180 0 150 (dk_at dksX6_signToken_6 0 rfl rfl)
theorem dX6_signToken_145 : decode cX6_signToken 145 = .ok (.bipush 61, 2) := dk_16 61 (dk_at dksX6_signToken_6 3 rfl rfl)
theorem dX6_signToken_147 : decode cX6_signToken 147 = .ok (.if_icmp .ne 7, 3) := dk_160 0 7 (dk_at dksX6_signToken_6 5 rfl rfl)
theorem dX6_signToken_150 : decode cX6_signToken 150 = .ok (.iconst 2, 1) := dk_5 (dk_at dksX6_signToken_6 8 rfl rfl)
theorem dX6_signToken_151 : decode cX6_signToken 151 = .ok (.goto 41, 3) := dk_167 0 41 (dk_at dksX6_signToken_6 9 rfl rfl)
theorem dX6_signToken_154 : decode cX6_signToken 154 = .ok (.aload_n 0, 1) := dk_42 (dk_at dksX6_signToken_6 12 rfl rfl)
theorem dX6_signToken_155 : decode cX6_signToken 155 = .ok (.getfield 150, 3) := dk_180 0 150 (dk_at dksX6_signToken_6 13 rfl rfl)
theorem dX6_signToken_158 : decode cX6_signToken 158 = .ok (.bipush 60, 2) := dk_16 60 (dk_at dksX6_signToken_6 16 rfl rfl)
theorem dX6_signToken_160 : decode cX6_signToken 160 = .ok (.if_icmp .ne 23, 3) := dk_160 0 23 (dk_at dksX6_signToken_6 18 rfl rfl)
theorem dX6_signToken_163 : decode cX6_signToken 163 = .ok (.iload_n 2, 1) := dk_28 (dk_at dksX6_signToken_6 21 rfl rfl)
theorem dX6_signToken_164 : decode cX6_signToken 164 = .ok (.ifCond .eq 7, 3) := dk_153 0 7 (dk_at dksX6_signToken_7 0 rfl rfl)
theorem dX6_signToken_167 : decode cX6_signToken 167 = .ok (.iconst 1, 1) := dk_4 (dk_at dksX6_signToken_7 3 rfl rfl)
theorem dX6_signToken_168 : decode cX6_signToken 168 = .ok (.goto 24, 3) := dk_167 0 24 (dk_at dksX6_signToken_7 4 rfl rfl)
theorem dX6_signToken_171 : decode cX6_signToken 171 = .ok (.iload_n 3, 1) := dk_29 (dk_at dksX6_signToken_7 7 rfl rfl)
theorem dX6_signToken_172 : decode cX6_signToken 172 = .ok (.ifCond .eq 7, 3) := dk_153 0 7 (dk_at dksX6_signToken_7 8 rfl rfl)
theorem dX6_signToken_175 : decode cX6_signToken 175 = .ok (.iconst 3, 1) := dk_6 (dk_at dksX6_signToken_7 11 rfl rfl)
theorem dX6_signToken_176 : decode cX6_signToken 176 = .ok (.goto 16, 3) := dk_167 0 16 (dk_at dksX6_signToken_7 12 rfl rfl)
theorem dX6_signToken_179 : decode cX6_signToken 179 = .ok (.iconst 0, 1) := dk_3 (dk_at dksX6_signToken_7 15 rfl rfl)
theorem dX6_signToken_180 : decode cX6_signToken 180 = .ok (.goto 12, 3) := dk_167 0 12 (dk_at dksX6_signToken_7 16 rfl rfl)
theorem dX6_signToken_183 : decode cX6_signToken 183 = .ok (.iload_n 2, 1) := dk_28 (dk_at dksX6_signToken_7 19 rfl rfl)
theorem dX6_signToken_184 : decode cX6_signToken 184 = .ok (.ifCond .eq 7, 3) := dk_153 0 7 (dk_at dksX6_signToken_7 20 rfl rfl)
theorem dX6_signToken_187 : decode cX6_signToken 187 = .ok (.iconst 4, 1) := dk_7 (dk_at dksX6_signToken_7 23 rfl rfl)
theorem dX6_signToken_188 : decode cX6_signToken 188 = .ok (.goto 4, 3) := dk_167 0 4 (dk_at dksX6_signToken_8 0 rfl rfl)
theorem dX6_signToken_191 : decode cX6_signToken 191 = .ok (.iconst 5, 1) := dk_8 (dk_at dksX6_signToken_8 3 rfl rfl)
theorem dX6_signToken_192 : decode cX6_signToken 192 = .ok (.putfield 150, 3) := dk_181 0 150 (dk_at dksX6_signToken_8 4 rfl rfl)
theorem dX6_signToken_195 : decode cX6_signToken 195 = .ok (.goto 95, 3) := dk_167 0 95 (dk_at dksX6_signToken_8 7 rfl rfl)
theorem dX6_signToken_198 : decode cX6_signToken 198 = .ok (.aload_n 0, 1) := dk_42 (dk_at dksX6_signToken_8 10 rfl rfl)
theorem dX6_signToken_199 : decode cX6_signToken 199 = .ok (.getfield 150, 3) := dk_180 0 150 (dk_at dksX6_signToken_8 11 rfl rfl)
theorem dX6_signToken_202 : decode cX6_signToken 202 = .ok (.bipush 59, 2) := dk_16 59 (dk_at dksX6_signToken_8 14 rfl rfl)
theorem dX6_signToken_204 : decode cX6_signToken 204 = .ok (.if_icmp .eq 66, 3) := dk_159 0 66 (dk_at dksX6_signToken_8 16 rfl rfl)
theorem dX6_signToken_207 : decode cX6_signToken 207 = .ok (.aload_n 0, 1) := dk_42 (dk_at dksX6_signToken_8 19 rfl rfl)
theorem dX6_signToken_208 : decode cX6_signToken 208 = .ok (.getfield 150, 3) := dk_180 0 150 (dk_at dksX6_signToken_8 20 rfl rfl)
theorem dX6_signToken_211 : decode cX6_signToken 211 = .ok (.bipush 40, 2) := dk_16 40 (dk_at dksX6_signToken_9 0 rfl rfl)
theorem dX6_signToken_213 : decode cX6_signToken 213 = .ok (.if_icmp .eq 57, 3) := dk_159 0 57 (dk_at dksX6_signToken_9 2 rfl rfl)
theorem dX6_signToken_216 : decode cX6_signToken 216 = .ok (.aload_n 0, 1) := dk_42 (dk_at dksX6_signToken_9 5 rfl rfl)
theorem dX6_signToken_217 : decode cX6_signToken 217 = .ok (.getfield 150, 3) := dk_180 0 150 (dk_at dksX6_signToken_9 6 rfl rfl)
theorem dX6_signToken_220 : decode cX6_signToken 220 = .ok (.bipush 41, 2) := dk_16 41 (dk_at dksX6_signToken_9 9 rfl rfl)
theorem dX6_signToken_222 : decode cX6_signToken 222 = .ok (.if_icmp .eq 48, 3) := dk_159 0 48 (dk_at dksX6_signToken_9 11 rfl rfl)
theorem dX6_signToken_225 : decode cX6_signToken 225 = .ok (.aload_n 0, 1) := dk_42 (dk_at dksX6_signToken_9 14 rfl rfl)
theorem dX6_signToken_226 : decode cX6_signToken 226 = .ok (.getfield 150, 3) := dk_180 0 150 (dk_at dksX6_signToken_9 15 rfl rfl)
theorem dX6_signToken_229 : decode cX6_signToken 229 = .ok (.bipush 43, 2) := dk_16 43 (dk_at dksX6_signToken_9 18 rfl rfl)
theorem dX6_signToken_231 : decode cX6_signToken 231 = .ok (.if_icmp .eq 39, 3) := dk_159 0 39 (dk_at dksX6_signToken_9 20 rfl rfl)
theorem dX6_signToken_234 : decode cX6_signToken 234 = .ok (.aload_n 0, 1) := dk_42 (dk_at dksX6_signToken_9 23 rfl rfl)
theorem dX6_signToken_235 : decode cX6_signToken 235 = .ok (.getfield 150, 3) := dk_180 0 150 (dk_at dksX6_signToken_10 0 rfl rfl)
theorem dX6_signToken_238 : decode cX6_signToken 238 = .ok (.bipush 45, 2) := dk_16 45 (dk_at dksX6_signToken_10 3 rfl rfl)
theorem dX6_signToken_240 : decode cX6_signToken 240 = .ok (.if_icmp .eq 30, 3) := dk_159 0 30 (dk_at dksX6_signToken_10 5 rfl rfl)
theorem dX6_signToken_243 : decode cX6_signToken 243 = .ok (.aload_n 0, 1) := dk_42 (dk_at dksX6_signToken_10 8 rfl rfl)
theorem dX6_signToken_244 : decode cX6_signToken 244 = .ok (.getfield 150, 3) := dk_180 0 150 (dk_at dksX6_signToken_10 9 rfl rfl)
theorem dX6_signToken_247 : decode cX6_signToken 247 = .ok (.bipush 42, 2) := dk_16 42 (dk_at dksX6_signToken_10 12 rfl rfl)
theorem dX6_signToken_249 : decode cX6_signToken 249 = .ok (.if_icmp .eq 21, 3) := dk_159 0 21 (dk_at dksX6_signToken_10 14 rfl rfl)
theorem dX6_signToken_252 : decode cX6_signToken 252 = .ok (.aload_n 0, 1) := dk_42 (dk_at dksX6_signToken_10 17 rfl rfl)
theorem dX6_signToken_253 : decode cX6_signToken 253 = .ok (.getfield 150, 3) := dk_180 0 150 (dk_at dksX6_signToken_10 18 rfl rfl)
theorem dX6_signToken_256 : decode cX6_signToken 256 = .ok (.bipush 47, 2) := dk_16 47 (dk_at dksX6_signToken_10 21 rfl rfl)
theorem dX6_signToken_258 : decode cX6_signToken 258 = .ok (.if_icmp .eq 12, 3) := dk_159 0 12 (dk_at dksX6_signToken_11 0 rfl rfl)
theorem dX6_signToken_261 : decode cX6_signToken 261 = .ok (.aload_n 0, 1) := dk_42 (dk_at dksX6_signToken_11 3 rfl rfl)
theorem dX6_signToken_262 : decode cX6_signToken 262 = .ok (.getfield 150, 3) := dk_180 0 150 (dk_at dksX6_signToken_11 4 rfl rfl)
theorem dX6_signToken_265 : decode cX6_signToken 265 = .ok (.bipush 37, 2) := dk_16 37 (dk_at dksX6_signToken_11 7 rfl rfl)
theorem dX6_signToken_267 : decode cX6_signToken 267 = .ok (.if_icmp .ne 7, 3) := dk_160 0 7 (dk_at dksX6_signToken_11 9 rfl rfl)
theorem dX6_signToken_270 : decode cX6_signToken 270 = .ok (.iconst 1, 1) := dk_4 (dk_at dksX6_signToken_11 12 rfl rfl)
theorem dX6_signToken_271 : decode cX6_signToken 271 = .ok (.goto 4, 3) := dk_167 0 4 (dk_at dksX6_signToken_11 13 rfl rfl)
theorem dX6_signToken_274 : decode cX6_signToken 274 = .ok (.iconst 0, 1) := dk_3 (dk_at dksX6_signToken_11 16 rfl rfl)
theorem dX6_signToken_275 : decode cX6_signToken 275 = .ok (.istore_n 1, 1) := dk_60 (dk_at dksX6_signToken_11 17 rfl rfl)
theorem dX6_signToken_276 : decode cX6_signToken 276 = .ok (.aload_n 0, 1) := dk_42 (dk_at dksX6_signToken_11 18 rfl rfl)
theorem dX6_signToken_277 : decode cX6_signToken 277 = .ok (.iload_n 1, 1) := dk_27 (dk_at dksX6_signToken_11 19 rfl rfl)
theorem dX6_signToken_278 : decode cX6_signToken 278 = .ok (.ifCond .eq 7, 3) := dk_153 0 7 (dk_at dksX6_signToken_11 20 rfl rfl)
theorem dX6_signToken_281 : decode cX6_signToken 281 = .ok (.iconst 4, 1) := dk_7 (dk_at dksX6_signToken_11 23 rfl rfl)
theorem dX6_signToken_282 : decode cX6_signToken 282 = .ok (.goto 5, 3) := dk_167 0 5 (dk_at dksX6_signToken_12 0 rfl rfl)
theorem dX6_signToken_285 : decode cX6_signToken 285 = .ok (.bipush 6, 2) := dk_16 6 (dk_at dksX6_signToken_12 3 rfl rfl)
theorem dX6_signToken_287 : decode cX6_signToken 287 = .ok (.putfield 139, 3) := dk_181 0 139 (dk_at dksX6_signToken_12 5 rfl rfl)
theorem dX6_signToken_290 : decode cX6_signToken 290 = .ok (.return_, 1) := dk_177 (dk_at dksX6_signToken_12 8 rfl rfl)
abbrev cX6_lineRead : ByteArray := prog_20_method_38_code
def yX6_lineRead : MethodName := ⟨RX6, "lineRead", "()Z"⟩
def dkwX6_lineRead_6 : List UInt8 := [182, 0, 176, 154, 0, 9, 42, 4, 182, 0, 163, 172, 42, 182, 0, 173, 4, 172]
abbrev dktX6_lineRead_6 : List UInt8 := dkwX6_lineRead_6 ++ []
def dkwX6_lineRead_5 : List UInt8 := [42, 182, 1, 65, 60, 167, 0, 8, 42, 182, 1, 68, 60, 27, 154, 0, 5, 3, 172, 42, 16, 59]
abbrev dktX6_lineRead_5 : List UInt8 := dkwX6_lineRead_5 ++ dktX6_lineRead_6
def dkwX6_lineRead_4 : List UInt8 := [42, 182, 1, 56, 60, 167, 0, 32, 42, 182, 1, 59, 60, 167, 0, 24, 42, 182, 1, 62, 60, 167, 0, 16]
abbrev dktX6_lineRead_4 : List UInt8 := dkwX6_lineRead_4 ++ dktX6_lineRead_5
def dkwX6_lineRead_3 : List UInt8 := [42, 182, 1, 47, 60, 167, 0, 56, 42, 182, 1, 50, 60, 167, 0, 48, 42, 182, 1, 53, 60, 167, 0, 40]
abbrev dktX6_lineRead_3 : List UInt8 := dkwX6_lineRead_3 ++ dktX6_lineRead_4
def dkwX6_lineRead_2 : List UInt8 := [170, 0, 0, 0, 97, 0, 0, 0, 0, 0, 0, 0, 6, 0, 0, 0, 41, 0, 0, 0, 49, 0, 0, 0, 57, 0, 0, 0, 65, 0, 0, 0, 73, 0, 0, 0, 81, 0, 0, 0, 89]
abbrev dktX6_lineRead_2 : List UInt8 := dkwX6_lineRead_2 ++ dktX6_lineRead_3
def dkwX6_lineRead_1 : List UInt8 := [180, 0, 150]
abbrev dktX6_lineRead_1 : List UInt8 := dkwX6_lineRead_1 ++ dktX6_lineRead_2
def dkwX6_lineRead_0 : List UInt8 := [42, 180, 0, 139, 4, 160, 0, 12, 42, 180, 0, 150, 16, 7, 164, 0, 9, 42, 4, 182, 0, 163, 172, 42]
abbrev dktX6_lineRead_0 : List UInt8 := dkwX6_lineRead_0 ++ dktX6_lineRead_1
theorem dksX6_lineRead_0 : cX6_lineRead.data.toList.drop 0 = dktX6_lineRead_0 := by decide +kernel
theorem dksX6_lineRead_1 : cX6_lineRead.data.toList.drop 24 = dktX6_lineRead_1 := dk_seg dksX6_lineRead_0 24 rfl rfl
theorem dksX6_lineRead_2 : cX6_lineRead.data.toList.drop 27 = dktX6_lineRead_2 := dk_seg dksX6_lineRead_1 3 rfl rfl
theorem dksX6_lineRead_3 : cX6_lineRead.data.toList.drop 68 = dktX6_lineRead_3 := dk_seg dksX6_lineRead_2 41 rfl rfl
theorem dksX6_lineRead_4 : cX6_lineRead.data.toList.drop 92 = dktX6_lineRead_4 := dk_seg dksX6_lineRead_3 24 rfl rfl
theorem dksX6_lineRead_5 : cX6_lineRead.data.toList.drop 116 = dktX6_lineRead_5 := dk_seg dksX6_lineRead_4 24 rfl rfl
theorem dksX6_lineRead_6 : cX6_lineRead.data.toList.drop 138 = dktX6_lineRead_6 := dk_seg dksX6_lineRead_5 22 rfl rfl
theorem dX6_lineRead_0 : decode cX6_lineRead 0 = .ok (.aload_n 0, 1) := dk_42 (dk_at dksX6_lineRead_0 0 rfl rfl)
theorem dX6_lineRead_1 : decode cX6_lineRead 1 = .ok (.getfield 139, 3) := dk_180 0 139 (dk_at dksX6_lineRead_0 1 rfl rfl)
theorem dX6_lineRead_4 : decode cX6_lineRead 4 = .ok (.iconst 1, 1) := dk_4 (dk_at dksX6_lineRead_0 4 rfl rfl)
theorem dX6_lineRead_5 : decode cX6_lineRead 5 = .ok (.if_icmp .ne 12, 3) := dk_160 0 12 (dk_at dksX6_lineRead_0 5 rfl rfl)
theorem dX6_lineRead_8 : decode cX6_lineRead 8 = .ok (.aload_n 0, 1) := dk_42 (dk_at dksX6_lineRead_0 8 rfl rfl)
theorem dX6_lineRead_9 : decode cX6_lineRead 9 = .ok (.getfield 150, 3) := dk_180 0 150 (dk_at dksX6_lineRead_0 9 rfl rfl)
theorem dX6_lineRead_12 : decode cX6_lineRead 12 = .ok (.bipush 7, 2) := dk_16 7 (dk_at dksX6_lineRead_0 12 rfl rfl)
theorem dX6_lineRead_14 : decode cX6_lineRead 14 = .ok (.if_icmp .le 9, 3) := dk_164 0 9 (dk_at dksX6_lineRead_0 14 rfl rfl)
theorem dX6_lineRead_17 : decode cX6_lineRead 17 = .ok (.aload_n 0, 1) := dk_42 (dk_at dksX6_lineRead_0 17 rfl rfl)
theorem dX6_lineRead_18 : decode cX6_lineRead 18 = .ok (.iconst 1, 1) := dk_4 (dk_at dksX6_lineRead_0 18 rfl rfl)
theorem dX6_lineRead_19 : decode cX6_lineRead 19 = .ok (.invokevirtual 163, 3) := dk_182 0 163 (dk_at dksX6_lineRead_0 19 rfl rfl)
theorem dX6_lineRead_22 : decode cX6_lineRead 22 = .ok (.ireturn, 1) := dk_172 (dk_at dksX6_lineRead_0 22 rfl rfl)
theorem dX6_lineRead_23 : decode cX6_lineRead 23 = .ok (.aload_n 0, 1) := dk_42 (dk_at dksX6_lineRead_0 23 rfl rfl)
theorem dX6_lineRead_24 : decode cX6_lineRead 24 = .ok (.getfield 150, 3) := dk_180 0 150 (dk_at dksX6_lineRead_1 0 rfl rfl)
theorem dX6_lineRead_27 : decode cX6_lineRead 27 = .ok (.tableswitch 97 0 6 #[41, 49, 57, 65, 73, 81, 89], 41) := by decide +kernel
theorem dX6_lineRead_68 : decode cX6_lineRead 68 = .ok (.aload_n 0, 1) := dk_42 (dk_at dksX6_lineRead_3 0 rfl rfl)
theorem dX6_lineRead_69 : decode cX6_lineRead 69 = .ok (.invokevirtual 303, 3) := dk_182 1 47 (dk_at dksX6_lineRead_3 1 rfl rfl)
theorem dX6_lineRead_72 : decode cX6_lineRead 72 = .ok (.istore_n 1, 1) := dk_60 (dk_at dksX6_lineRead_3 4 rfl rfl)
theorem dX6_lineRead_73 : decode cX6_lineRead 73 = .ok (.goto 56, 3) := dk_167 0 56 (dk_at dksX6_lineRead_3 5 rfl rfl)
theorem dX6_lineRead_76 : decode cX6_lineRead 76 = .ok (.aload_n 0, 1) := dk_42 (dk_at dksX6_lineRead_3 8 rfl rfl)
theorem dX6_lineRead_77 : decode cX6_lineRead 77 = .ok (.invokevirtual 306, 3) := dk_182 1 50 (dk_at dksX6_lineRead_3 9 rfl rfl)
theorem dX6_lineRead_80 : decode cX6_lineRead 80 = .ok (.istore_n 1, 1) := dk_60 (dk_at dksX6_lineRead_3 12 rfl rfl)
theorem dX6_lineRead_81 : decode cX6_lineRead 81 = .ok (.goto 48, 3) := dk_167 0 48 (dk_at dksX6_lineRead_3 13 rfl rfl)
theorem dX6_lineRead_84 : decode cX6_lineRead 84 = .ok (.aload_n 0, 1) := dk_42 (dk_at dksX6_lineRead_3 16 rfl rfl)
theorem dX6_lineRead_85 : decode cX6_lineRead 85 = .ok (.invokevirtual 309, 3) := dk_182 1 53 (dk_at dksX6_lineRead_3 17 rfl rfl)
theorem dX6_lineRead_88 : decode cX6_lineRead 88 = .ok (.istore_n 1, 1) := dk_60 (dk_at dksX6_lineRead_3 20 rfl rfl)
theorem dX6_lineRead_89 : decode cX6_lineRead 89 = .ok (.goto 40, 3) := dk_167 0 40 (dk_at dksX6_lineRead_3 21 rfl rfl)
theorem dX6_lineRead_92 : decode cX6_lineRead 92 = .ok (.aload_n 0, 1) := dk_42 (dk_at dksX6_lineRead_4 0 rfl rfl)
theorem dX6_lineRead_93 : decode cX6_lineRead 93 = .ok (.invokevirtual 312, 3) := dk_182 1 56 (dk_at dksX6_lineRead_4 1 rfl rfl)
theorem dX6_lineRead_96 : decode cX6_lineRead 96 = .ok (.istore_n 1, 1) := dk_60 (dk_at dksX6_lineRead_4 4 rfl rfl)
theorem dX6_lineRead_97 : decode cX6_lineRead 97 = .ok (.goto 32, 3) := dk_167 0 32 (dk_at dksX6_lineRead_4 5 rfl rfl)
theorem dX6_lineRead_100 : decode cX6_lineRead 100 = .ok (.aload_n 0, 1) := dk_42 (dk_at dksX6_lineRead_4 8 rfl rfl)
theorem dX6_lineRead_101 : decode cX6_lineRead 101 = .ok (.invokevirtual 315, 3) := dk_182 1 59 (dk_at dksX6_lineRead_4 9 rfl rfl)
theorem dX6_lineRead_104 : decode cX6_lineRead 104 = .ok (.istore_n 1, 1) := dk_60 (dk_at dksX6_lineRead_4 12 rfl rfl)
theorem dX6_lineRead_105 : decode cX6_lineRead 105 = .ok (.goto 24, 3) := dk_167 0 24 (dk_at dksX6_lineRead_4 13 rfl rfl)
theorem dX6_lineRead_108 : decode cX6_lineRead 108 = .ok (.aload_n 0, 1) := dk_42 (dk_at dksX6_lineRead_4 16 rfl rfl)
theorem dX6_lineRead_109 : decode cX6_lineRead 109 = .ok (.invokevirtual 318, 3) := dk_182 1 62 (dk_at dksX6_lineRead_4 17 rfl rfl)
theorem dX6_lineRead_112 : decode cX6_lineRead 112 = .ok (.istore_n 1, 1) := dk_60 (dk_at dksX6_lineRead_4 20 rfl rfl)
theorem dX6_lineRead_113 : decode cX6_lineRead 113 = .ok (.goto 16, 3) := dk_167 0 16 (dk_at dksX6_lineRead_4 21 rfl rfl)
theorem dX6_lineRead_116 : decode cX6_lineRead 116 = .ok (.aload_n 0, 1) := dk_42 (dk_at dksX6_lineRead_5 0 rfl rfl)
theorem dX6_lineRead_117 : decode cX6_lineRead 117 = .ok (.invokevirtual 321, 3) := dk_182 1 65 (dk_at dksX6_lineRead_5 1 rfl rfl)
theorem dX6_lineRead_120 : decode cX6_lineRead 120 = .ok (.istore_n 1, 1) := dk_60 (dk_at dksX6_lineRead_5 4 rfl rfl)
theorem dX6_lineRead_121 : decode cX6_lineRead 121 = .ok (.goto 8, 3) := dk_167 0 8 (dk_at dksX6_lineRead_5 5 rfl rfl)
theorem dX6_lineRead_124 : decode cX6_lineRead 124 = .ok (.aload_n 0, 1) := dk_42 (dk_at dksX6_lineRead_5 8 rfl rfl)
theorem dX6_lineRead_125 : decode cX6_lineRead 125 = .ok (.invokevirtual 324, 3) := dk_182 1 68 (dk_at dksX6_lineRead_5 9 rfl rfl)
theorem dX6_lineRead_128 : decode cX6_lineRead 128 = .ok (.istore_n 1, 1) := dk_60 (dk_at dksX6_lineRead_5 12 rfl rfl)
theorem dX6_lineRead_129 : decode cX6_lineRead 129 = .ok (.iload_n 1, 1) := dk_27 (dk_at dksX6_lineRead_5 13 rfl rfl)
theorem dX6_lineRead_130 : decode cX6_lineRead 130 = .ok (.ifCond .ne 5, 3) := dk_154 0 5 (dk_at dksX6_lineRead_5 14 rfl rfl)
theorem dX6_lineRead_133 : decode cX6_lineRead 133 = .ok (.iconst 0, 1) := dk_3 (dk_at dksX6_lineRead_5 17 rfl rfl)
theorem dX6_lineRead_134 : decode cX6_lineRead 134 = .ok (.ireturn, 1) := dk_172 (dk_at dksX6_lineRead_5 18 rfl rfl)
theorem dX6_lineRead_135 : decode cX6_lineRead 135 = .ok (.aload_n 0, 1) := dk_42 (dk_at dksX6_lineRead_5 19 rfl rfl)
theorem dX6_lineRead_136 : decode cX6_lineRead 136 = .ok (.bipush 59, 2) := dk_16 59 (dk_at dksX6_lineRead_5 20 rfl rfl)
theorem dX6_lineRead_138 : decode cX6_lineRead 138 = .ok (.invokevirtual 176, 3) := dk_182 0 176 (dk_at dksX6_lineRead_6 0 rfl rfl)
theorem dX6_lineRead_141 : decode cX6_lineRead 141 = .ok (.ifCond .ne 9, 3) := dk_154 0 9 (dk_at dksX6_lineRead_6 3 rfl rfl)
theorem dX6_lineRead_144 : decode cX6_lineRead 144 = .ok (.aload_n 0, 1) := dk_42 (dk_at dksX6_lineRead_6 6 rfl rfl)
theorem dX6_lineRead_145 : decode cX6_lineRead 145 = .ok (.iconst 1, 1) := dk_4 (dk_at dksX6_lineRead_6 7 rfl rfl)
theorem dX6_lineRead_146 : decode cX6_lineRead 146 = .ok (.invokevirtual 163, 3) := dk_182 0 163 (dk_at dksX6_lineRead_6 8 rfl rfl)
theorem dX6_lineRead_149 : decode cX6_lineRead 149 = .ok (.ireturn, 1) := dk_172 (dk_at dksX6_lineRead_6 11 rfl rfl)
theorem dX6_lineRead_150 : decode cX6_lineRead 150 = .ok (.aload_n 0, 1) := dk_42 (dk_at dksX6_lineRead_6 12 rfl rfl)
theorem dX6_lineRead_151 : decode cX6_lineRead 151 = .ok (.invokevirtual 173, 3) := dk_182 0 173 (dk_at dksX6_lineRead_6 13 rfl rfl)
theorem dX6_lineRead_154 : decode cX6_lineRead 154 = .ok (.iconst 1, 1) := dk_4 (dk_at dksX6_lineRead_6 16 rfl rfl)
theorem dX6_lineRead_155 : decode cX6_lineRead 155 = .ok (.ireturn, 1) := dk_172 (dk_at dksX6_lineRead_6 17 rfl rfl)
abbrev cX6_wrong : ByteArray := prog_20_method_7_code
def yX6_wrong : MethodName := ⟨RX6, "wrong", "(I)Z"⟩
def dkwX6_wrong_0 : List UInt8 := [42, 27, 181, 0, 127, 42, 42, 180, 0, 130, 181, 0, 16, 3, 172]
abbrev dktX6_wrong_0 : List UInt8 := dkwX6_wrong_0 ++ []
theorem dksX6_wrong_0 : cX6_wrong.data.toList.drop 0 = dktX6_wrong_0 := by decide +kernel
theorem dX6_wrong_0 : decode cX6_wrong 0 = .ok (.aload_n 0, 1) := dk_42 (dk_at dksX6_wrong_0 0 rfl rfl)
theorem dX6_wrong_1 : decode cX6_wrong 1 = .ok (.iload_n 1, 1) := dk_27 (dk_at dksX6_wrong_0 1 rfl rfl)
theorem dX6_wrong_2 : decode cX6_wrong 2 = .ok (.putfield 127, 3) := dk_181 0 127 (dk_at dksX6_wrong_0 2 rfl rfl)
theorem dX6_wrong_5 : decode cX6_wrong 5 = .ok (.aload_n 0, 1) := dk_42 (dk_at dksX6_wrong_0 5 rfl rfl)
theorem dX6_wrong_6 : decode cX6_wrong 6 = .ok (.aload_n 0, 1) := dk_42 (dk_at dksX6_wrong_0 6 rfl rfl)
theorem dX6_wrong_7 : decode cX6_wrong 7 = .ok (.getfield 130, 3) := dk_180 0 130 (dk_at dksX6_wrong_0 7 rfl rfl)
theorem dX6_wrong_10 : decode cX6_wrong 10 = .ok (.putfield 16, 3) := dk_181 0 16 (dk_at dksX6_wrong_0 10 rfl rfl)
theorem dX6_wrong_13 : decode cX6_wrong 13 = .ok (.iconst 0, 1) := dk_3 (dk_at dksX6_wrong_0 13 rfl rfl)
theorem dX6_wrong_14 : decode cX6_wrong 14 = .ok (.ireturn, 1) := dk_172 (dk_at dksX6_wrong_0 14 rfl rfl)
abbrev cX6_landLine : ByteArray := prog_20_method_26_code
def yX6_landLine : MethodName := ⟨RX6, "landLine", "()Z"⟩
def dkwX6_landLine_6 : List UInt8 := [180, 0, 186, 4, 96, 181, 0, 186, 4, 172]
abbrev dktX6_landLine_6 : List UInt8 := dkwX6_landLine_6 ++ []
def dkwX6_landLine_5 : List UInt8 := [182, 0, 179, 154, 0, 5, 3, 172, 42, 180, 0, 26, 27, 5, 96, 42, 180, 0, 170, 79, 42, 89]
abbrev dktX6_landLine_5 : List UInt8 := dkwX6_landLine_5 ++ dktX6_landLine_6
def dkwX6_landLine_4 : List UInt8 := [27, 5, 96, 3, 79, 42, 16, 8, 182, 0, 183, 153, 0, 31, 42, 182, 0, 173, 42, 3, 18, 159]
abbrev dktX6_landLine_4 : List UInt8 := dkwX6_landLine_4 ++ dktX6_landLine_5
def dkwX6_landLine_3 : List UInt8 := [182, 1, 7, 154, 0, 5, 3, 172, 42, 180, 0, 26, 27, 4, 96, 42, 180, 0, 170, 79, 42, 180, 0, 26]
abbrev dktX6_landLine_3 : List UInt8 := dkwX6_landLine_3 ++ dktX6_landLine_4
def dkwX6_landLine_2 : List UInt8 := [17, 39, 15, 182, 0, 179, 154, 0, 5, 3, 172, 42, 180, 0, 26, 27, 42, 180, 0, 170, 79, 42, 16, 99]
abbrev dktX6_landLine_2 : List UInt8 := dkwX6_landLine_2 ++ dktX6_landLine_3
def dkwX6_landLine_1 : List UInt8 := [42, 180, 0, 186, 182, 1, 3, 154, 0, 5, 3, 172, 16, 12, 6, 42, 180, 0, 186, 104, 96, 60, 42, 4]
abbrev dktX6_landLine_1 : List UInt8 := dkwX6_landLine_1 ++ dktX6_landLine_2
def dkwX6_landLine_0 : List UInt8 := [42, 180, 0, 186, 7, 160, 0, 9, 42, 5, 182, 0, 163, 172, 42, 182, 0, 173, 42, 42, 180, 0, 23, 7]
abbrev dktX6_landLine_0 : List UInt8 := dkwX6_landLine_0 ++ dktX6_landLine_1
theorem dksX6_landLine_0 : cX6_landLine.data.toList.drop 0 = dktX6_landLine_0 := by decide +kernel
theorem dksX6_landLine_1 : cX6_landLine.data.toList.drop 24 = dktX6_landLine_1 := dk_seg dksX6_landLine_0 24 rfl rfl
theorem dksX6_landLine_2 : cX6_landLine.data.toList.drop 48 = dktX6_landLine_2 := dk_seg dksX6_landLine_1 24 rfl rfl
theorem dksX6_landLine_3 : cX6_landLine.data.toList.drop 72 = dktX6_landLine_3 := dk_seg dksX6_landLine_2 24 rfl rfl
theorem dksX6_landLine_4 : cX6_landLine.data.toList.drop 96 = dktX6_landLine_4 := dk_seg dksX6_landLine_3 24 rfl rfl
theorem dksX6_landLine_5 : cX6_landLine.data.toList.drop 118 = dktX6_landLine_5 := dk_seg dksX6_landLine_4 22 rfl rfl
theorem dksX6_landLine_6 : cX6_landLine.data.toList.drop 140 = dktX6_landLine_6 := dk_seg dksX6_landLine_5 22 rfl rfl
theorem dX6_landLine_0 : decode cX6_landLine 0 = .ok (.aload_n 0, 1) := dk_42 (dk_at dksX6_landLine_0 0 rfl rfl)
theorem dX6_landLine_1 : decode cX6_landLine 1 = .ok (.getfield 186, 3) := dk_180 0 186 (dk_at dksX6_landLine_0 1 rfl rfl)
theorem dX6_landLine_4 : decode cX6_landLine 4 = .ok (.iconst 4, 1) := dk_7 (dk_at dksX6_landLine_0 4 rfl rfl)
theorem dX6_landLine_5 : decode cX6_landLine 5 = .ok (.if_icmp .ne 9, 3) := dk_160 0 9 (dk_at dksX6_landLine_0 5 rfl rfl)
theorem dX6_landLine_8 : decode cX6_landLine 8 = .ok (.aload_n 0, 1) := dk_42 (dk_at dksX6_landLine_0 8 rfl rfl)
theorem dX6_landLine_9 : decode cX6_landLine 9 = .ok (.iconst 2, 1) := dk_5 (dk_at dksX6_landLine_0 9 rfl rfl)
theorem dX6_landLine_10 : decode cX6_landLine 10 = .ok (.invokevirtual 163, 3) := dk_182 0 163 (dk_at dksX6_landLine_0 10 rfl rfl)
theorem dX6_landLine_13 : decode cX6_landLine 13 = .ok (.ireturn, 1) := dk_172 (dk_at dksX6_landLine_0 13 rfl rfl)
theorem dX6_landLine_14 : decode cX6_landLine 14 = .ok (.aload_n 0, 1) := dk_42 (dk_at dksX6_landLine_0 14 rfl rfl)
theorem dX6_landLine_15 : decode cX6_landLine 15 = .ok (.invokevirtual 173, 3) := dk_182 0 173 (dk_at dksX6_landLine_0 15 rfl rfl)
theorem dX6_landLine_18 : decode cX6_landLine 18 = .ok (.aload_n 0, 1) := dk_42 (dk_at dksX6_landLine_0 18 rfl rfl)
theorem dX6_landLine_19 : decode cX6_landLine 19 = .ok (.aload_n 0, 1) := dk_42 (dk_at dksX6_landLine_0 19 rfl rfl)
theorem dX6_landLine_20 : decode cX6_landLine 20 = .ok (.getfield 23, 3) := dk_180 0 23 (dk_at dksX6_landLine_0 20 rfl rfl)
theorem dX6_landLine_23 : decode cX6_landLine 23 = .ok (.iconst 4, 1) := dk_7 (dk_at dksX6_landLine_0 23 rfl rfl)
theorem dX6_landLine_24 : decode cX6_landLine 24 = .ok (.aload_n 0, 1) := dk_42 (dk_at dksX6_landLine_1 0 rfl rfl)
theorem dX6_landLine_25 : decode cX6_landLine 25 = .ok (.getfield 186, 3) := dk_180 0 186 (dk_at dksX6_landLine_1 1 rfl rfl)
theorem dX6_landLine_28 : decode cX6_landLine 28 = .ok (.invokevirtual 259, 3) := dk_182 1 3 (dk_at dksX6_landLine_1 4 rfl rfl)
theorem dX6_landLine_31 : decode cX6_landLine 31 = .ok (.ifCond .ne 5, 3) := dk_154 0 5 (dk_at dksX6_landLine_1 7 rfl rfl)
theorem dX6_landLine_34 : decode cX6_landLine 34 = .ok (.iconst 0, 1) := dk_3 (dk_at dksX6_landLine_1 10 rfl rfl)
theorem dX6_landLine_35 : decode cX6_landLine 35 = .ok (.ireturn, 1) := dk_172 (dk_at dksX6_landLine_1 11 rfl rfl)
theorem dX6_landLine_36 : decode cX6_landLine 36 = .ok (.bipush 12, 2) := dk_16 12 (dk_at dksX6_landLine_1 12 rfl rfl)
theorem dX6_landLine_38 : decode cX6_landLine 38 = .ok (.iconst 3, 1) := dk_6 (dk_at dksX6_landLine_1 14 rfl rfl)
theorem dX6_landLine_39 : decode cX6_landLine 39 = .ok (.aload_n 0, 1) := dk_42 (dk_at dksX6_landLine_1 15 rfl rfl)
theorem dX6_landLine_40 : decode cX6_landLine 40 = .ok (.getfield 186, 3) := dk_180 0 186 (dk_at dksX6_landLine_1 16 rfl rfl)
theorem dX6_landLine_43 : decode cX6_landLine 43 = .ok (.imul, 1) := dk_104 (dk_at dksX6_landLine_1 19 rfl rfl)
theorem dX6_landLine_44 : decode cX6_landLine 44 = .ok (.iadd, 1) := dk_96 (dk_at dksX6_landLine_1 20 rfl rfl)
theorem dX6_landLine_45 : decode cX6_landLine 45 = .ok (.istore_n 1, 1) := dk_60 (dk_at dksX6_landLine_1 21 rfl rfl)
theorem dX6_landLine_46 : decode cX6_landLine 46 = .ok (.aload_n 0, 1) := dk_42 (dk_at dksX6_landLine_1 22 rfl rfl)
theorem dX6_landLine_47 : decode cX6_landLine 47 = .ok (.iconst 1, 1) := dk_4 (dk_at dksX6_landLine_1 23 rfl rfl)
theorem dX6_landLine_48 : decode cX6_landLine 48 = .ok (.sipush 9999, 3) := dk_17 39 15 (dk_at dksX6_landLine_2 0 rfl rfl)
theorem dX6_landLine_51 : decode cX6_landLine 51 = .ok (.invokevirtual 179, 3) := dk_182 0 179 (dk_at dksX6_landLine_2 3 rfl rfl)
theorem dX6_landLine_54 : decode cX6_landLine 54 = .ok (.ifCond .ne 5, 3) := dk_154 0 5 (dk_at dksX6_landLine_2 6 rfl rfl)
theorem dX6_landLine_57 : decode cX6_landLine 57 = .ok (.iconst 0, 1) := dk_3 (dk_at dksX6_landLine_2 9 rfl rfl)
theorem dX6_landLine_58 : decode cX6_landLine 58 = .ok (.ireturn, 1) := dk_172 (dk_at dksX6_landLine_2 10 rfl rfl)
theorem dX6_landLine_59 : decode cX6_landLine 59 = .ok (.aload_n 0, 1) := dk_42 (dk_at dksX6_landLine_2 11 rfl rfl)
theorem dX6_landLine_60 : decode cX6_landLine 60 = .ok (.getfield 26, 3) := dk_180 0 26 (dk_at dksX6_landLine_2 12 rfl rfl)
theorem dX6_landLine_63 : decode cX6_landLine 63 = .ok (.iload_n 1, 1) := dk_27 (dk_at dksX6_landLine_2 15 rfl rfl)
theorem dX6_landLine_64 : decode cX6_landLine 64 = .ok (.aload_n 0, 1) := dk_42 (dk_at dksX6_landLine_2 16 rfl rfl)
theorem dX6_landLine_65 : decode cX6_landLine 65 = .ok (.getfield 170, 3) := dk_180 0 170 (dk_at dksX6_landLine_2 17 rfl rfl)
theorem dX6_landLine_68 : decode cX6_landLine 68 = .ok (.iastore, 1) := dk_79 (dk_at dksX6_landLine_2 20 rfl rfl)
theorem dX6_landLine_69 : decode cX6_landLine 69 = .ok (.aload_n 0, 1) := dk_42 (dk_at dksX6_landLine_2 21 rfl rfl)
theorem dX6_landLine_70 : decode cX6_landLine 70 = .ok (.bipush 99, 2) := dk_16 99 (dk_at dksX6_landLine_2 22 rfl rfl)
theorem dX6_landLine_72 : decode cX6_landLine 72 = .ok (.invokevirtual 263, 3) := dk_182 1 7 (dk_at dksX6_landLine_3 0 rfl rfl)
theorem dX6_landLine_75 : decode cX6_landLine 75 = .ok (.ifCond .ne 5, 3) := dk_154 0 5 (dk_at dksX6_landLine_3 3 rfl rfl)
theorem dX6_landLine_78 : decode cX6_landLine 78 = .ok (.iconst 0, 1) := dk_3 (dk_at dksX6_landLine_3 6 rfl rfl)
theorem dX6_landLine_79 : decode cX6_landLine 79 = .ok (.ireturn, 1) := dk_172 (dk_at dksX6_landLine_3 7 rfl rfl)
theorem dX6_landLine_80 : decode cX6_landLine 80 = .ok (.aload_n 0, 1) := dk_42 (dk_at dksX6_landLine_3 8 rfl rfl)
theorem dX6_landLine_81 : decode cX6_landLine 81 = .ok (.getfield 26, 3) := dk_180 0 26 (dk_at dksX6_landLine_3 9 rfl rfl)
theorem dX6_landLine_84 : decode cX6_landLine 84 = .ok (.iload_n 1, 1) := dk_27 (dk_at dksX6_landLine_3 12 rfl rfl)
theorem dX6_landLine_85 : decode cX6_landLine 85 = .ok (.iconst 1, 1) := dk_4 (dk_at dksX6_landLine_3 13 rfl rfl)
theorem dX6_landLine_86 : decode cX6_landLine 86 = .ok (.iadd, 1) := dk_96 (dk_at dksX6_landLine_3 14 rfl rfl)
theorem dX6_landLine_87 : decode cX6_landLine 87 = .ok (.aload_n 0, 1) := dk_42 (dk_at dksX6_landLine_3 15 rfl rfl)
theorem dX6_landLine_88 : decode cX6_landLine 88 = .ok (.getfield 170, 3) := dk_180 0 170 (dk_at dksX6_landLine_3 16 rfl rfl)
theorem dX6_landLine_91 : decode cX6_landLine 91 = .ok (.iastore, 1) := dk_79 (dk_at dksX6_landLine_3 19 rfl rfl)
theorem dX6_landLine_92 : decode cX6_landLine 92 = .ok (.aload_n 0, 1) := dk_42 (dk_at dksX6_landLine_3 20 rfl rfl)
theorem dX6_landLine_93 : decode cX6_landLine 93 = .ok (.getfield 26, 3) := dk_180 0 26 (dk_at dksX6_landLine_3 21 rfl rfl)
theorem dX6_landLine_96 : decode cX6_landLine 96 = .ok (.iload_n 1, 1) := dk_27 (dk_at dksX6_landLine_4 0 rfl rfl)
theorem dX6_landLine_97 : decode cX6_landLine 97 = .ok (.iconst 2, 1) := dk_5 (dk_at dksX6_landLine_4 1 rfl rfl)
theorem dX6_landLine_98 : decode cX6_landLine 98 = .ok (.iadd, 1) := dk_96 (dk_at dksX6_landLine_4 2 rfl rfl)
theorem dX6_landLine_99 : decode cX6_landLine 99 = .ok (.iconst 0, 1) := dk_3 (dk_at dksX6_landLine_4 3 rfl rfl)
theorem dX6_landLine_100 : decode cX6_landLine 100 = .ok (.iastore, 1) := dk_79 (dk_at dksX6_landLine_4 4 rfl rfl)
theorem dX6_landLine_101 : decode cX6_landLine 101 = .ok (.aload_n 0, 1) := dk_42 (dk_at dksX6_landLine_4 5 rfl rfl)
theorem dX6_landLine_102 : decode cX6_landLine 102 = .ok (.bipush 8, 2) := dk_16 8 (dk_at dksX6_landLine_4 6 rfl rfl)
theorem dX6_landLine_104 : decode cX6_landLine 104 = .ok (.invokevirtual 183, 3) := dk_182 0 183 (dk_at dksX6_landLine_4 8 rfl rfl)
theorem dX6_landLine_107 : decode cX6_landLine 107 = .ok (.ifCond .eq 31, 3) := dk_153 0 31 (dk_at dksX6_landLine_4 11 rfl rfl)
theorem dX6_landLine_110 : decode cX6_landLine 110 = .ok (.aload_n 0, 1) := dk_42 (dk_at dksX6_landLine_4 14 rfl rfl)
theorem dX6_landLine_111 : decode cX6_landLine 111 = .ok (.invokevirtual 173, 3) := dk_182 0 173 (dk_at dksX6_landLine_4 15 rfl rfl)
theorem dX6_landLine_114 : decode cX6_landLine 114 = .ok (.aload_n 0, 1) := dk_42 (dk_at dksX6_landLine_4 18 rfl rfl)
theorem dX6_landLine_115 : decode cX6_landLine 115 = .ok (.iconst 0, 1) := dk_3 (dk_at dksX6_landLine_4 19 rfl rfl)
theorem dX6_landLine_116 : decode cX6_landLine 116 = .ok (.ldc 159, 2) := dk_18 159 (dk_at dksX6_landLine_4 20 rfl rfl)
theorem dX6_landLine_118 : decode cX6_landLine 118 = .ok (.invokevirtual 179, 3) := dk_182 0 179 (dk_at dksX6_landLine_5 0 rfl rfl)
theorem dX6_landLine_121 : decode cX6_landLine 121 = .ok (.ifCond .ne 5, 3) := dk_154 0 5 (dk_at dksX6_landLine_5 3 rfl rfl)
theorem dX6_landLine_124 : decode cX6_landLine 124 = .ok (.iconst 0, 1) := dk_3 (dk_at dksX6_landLine_5 6 rfl rfl)
theorem dX6_landLine_125 : decode cX6_landLine 125 = .ok (.ireturn, 1) := dk_172 (dk_at dksX6_landLine_5 7 rfl rfl)
theorem dX6_landLine_126 : decode cX6_landLine 126 = .ok (.aload_n 0, 1) := dk_42 (dk_at dksX6_landLine_5 8 rfl rfl)
theorem dX6_landLine_127 : decode cX6_landLine 127 = .ok (.getfield 26, 3) := dk_180 0 26 (dk_at dksX6_landLine_5 9 rfl rfl)
theorem dX6_landLine_130 : decode cX6_landLine 130 = .ok (.iload_n 1, 1) := dk_27 (dk_at dksX6_landLine_5 12 rfl rfl)
theorem dX6_landLine_131 : decode cX6_landLine 131 = .ok (.iconst 2, 1) := dk_5 (dk_at dksX6_landLine_5 13 rfl rfl)
theorem dX6_landLine_132 : decode cX6_landLine 132 = .ok (.iadd, 1) := dk_96 (dk_at dksX6_landLine_5 14 rfl rfl)
theorem dX6_landLine_133 : decode cX6_landLine 133 = .ok (.aload_n 0, 1) := dk_42 (dk_at dksX6_landLine_5 15 rfl rfl)
theorem dX6_landLine_134 : decode cX6_landLine 134 = .ok (.getfield 170, 3) := dk_180 0 170 (dk_at dksX6_landLine_5 16 rfl rfl)
theorem dX6_landLine_137 : decode cX6_landLine 137 = .ok (.iastore, 1) := dk_79 (dk_at dksX6_landLine_5 19 rfl rfl)
theorem dX6_landLine_138 : decode cX6_landLine 138 = .ok (.aload_n 0, 1) := dk_42 (dk_at dksX6_landLine_5 20 rfl rfl)
theorem dX6_landLine_139 : decode cX6_landLine 139 = .ok (.dup, 1) := dk_89 (dk_at dksX6_landLine_5 21 rfl rfl)
theorem dX6_landLine_140 : decode cX6_landLine 140 = .ok (.getfield 186, 3) := dk_180 0 186 (dk_at dksX6_landLine_6 0 rfl rfl)
theorem dX6_landLine_143 : decode cX6_landLine 143 = .ok (.iconst 1, 1) := dk_4 (dk_at dksX6_landLine_6 3 rfl rfl)
theorem dX6_landLine_144 : decode cX6_landLine 144 = .ok (.iadd, 1) := dk_96 (dk_at dksX6_landLine_6 4 rfl rfl)
theorem dX6_landLine_145 : decode cX6_landLine 145 = .ok (.putfield 186, 3) := dk_181 0 186 (dk_at dksX6_landLine_6 5 rfl rfl)
theorem dX6_landLine_148 : decode cX6_landLine 148 = .ok (.iconst 1, 1) := dk_4 (dk_at dksX6_landLine_6 8 rfl rfl)
theorem dX6_landLine_149 : decode cX6_landLine 149 = .ok (.ireturn, 1) := dk_172 (dk_at dksX6_landLine_6 9 rfl rfl)
abbrev cX6_newName : ByteArray := prog_20_method_24_code
def yX6_newName : MethodName := ⟨RX6, "newName", "([III)Z"⟩
def dkwX6_newName_1 : List UInt8 := [155, 0, 9, 42, 6, 182, 0, 163, 172, 43, 28, 29, 96, 42, 180, 0, 150, 79, 42, 182, 0, 173, 4, 172]
abbrev dktX6_newName_1 : List UInt8 := dkwX6_newName_1 ++ []
def dkwX6_newName_0 : List UInt8 := [42, 180, 0, 139, 5, 159, 0, 9, 42, 4, 182, 0, 163, 172, 43, 28, 29, 42, 180, 0, 150, 184, 0, 255]
abbrev dktX6_newName_0 : List UInt8 := dkwX6_newName_0 ++ dktX6_newName_1
theorem dksX6_newName_0 : cX6_newName.data.toList.drop 0 = dktX6_newName_0 := by decide +kernel
theorem dksX6_newName_1 : cX6_newName.data.toList.drop 24 = dktX6_newName_1 := dk_seg dksX6_newName_0 24 rfl rfl
theorem dX6_newName_0 : decode cX6_newName 0 = .ok (.aload_n 0, 1) := dk_42 (dk_at dksX6_newName_0 0 rfl rfl)
theorem dX6_newName_1 : decode cX6_newName 1 = .ok (.getfield 139, 3) := dk_180 0 139 (dk_at dksX6_newName_0 1 rfl rfl)
theorem dX6_newName_4 : decode cX6_newName 4 = .ok (.iconst 2, 1) := dk_5 (dk_at dksX6_newName_0 4 rfl rfl)
theorem dX6_newName_5 : decode cX6_newName 5 = .ok (.if_icmp .eq 9, 3) := dk_159 0 9 (dk_at dksX6_newName_0 5 rfl rfl)
theorem dX6_newName_8 : decode cX6_newName 8 = .ok (.aload_n 0, 1) := dk_42 (dk_at dksX6_newName_0 8 rfl rfl)
theorem dX6_newName_9 : decode cX6_newName 9 = .ok (.iconst 1, 1) := dk_4 (dk_at dksX6_newName_0 9 rfl rfl)
theorem dX6_newName_10 : decode cX6_newName 10 = .ok (.invokevirtual 163, 3) := dk_182 0 163 (dk_at dksX6_newName_0 10 rfl rfl)
theorem dX6_newName_13 : decode cX6_newName 13 = .ok (.ireturn, 1) := dk_172 (dk_at dksX6_newName_0 13 rfl rfl)
theorem dX6_newName_14 : decode cX6_newName 14 = .ok (.aload_n 1, 1) := dk_43 (dk_at dksX6_newName_0 14 rfl rfl)
theorem dX6_newName_15 : decode cX6_newName 15 = .ok (.iload_n 2, 1) := dk_28 (dk_at dksX6_newName_0 15 rfl rfl)
theorem dX6_newName_16 : decode cX6_newName 16 = .ok (.iload_n 3, 1) := dk_29 (dk_at dksX6_newName_0 16 rfl rfl)
theorem dX6_newName_17 : decode cX6_newName 17 = .ok (.aload_n 0, 1) := dk_42 (dk_at dksX6_newName_0 17 rfl rfl)
theorem dX6_newName_18 : decode cX6_newName 18 = .ok (.getfield 150, 3) := dk_180 0 150 (dk_at dksX6_newName_0 18 rfl rfl)
theorem dX6_newName_21 : decode cX6_newName 21 = .ok (.invokestatic 255, 3) := dk_184 0 255 (dk_at dksX6_newName_0 21 rfl rfl)
theorem dX6_newName_24 : decode cX6_newName 24 = .ok (.ifCond .lt 9, 3) := dk_155 0 9 (dk_at dksX6_newName_1 0 rfl rfl)
theorem dX6_newName_27 : decode cX6_newName 27 = .ok (.aload_n 0, 1) := dk_42 (dk_at dksX6_newName_1 3 rfl rfl)
theorem dX6_newName_28 : decode cX6_newName 28 = .ok (.iconst 3, 1) := dk_6 (dk_at dksX6_newName_1 4 rfl rfl)
theorem dX6_newName_29 : decode cX6_newName 29 = .ok (.invokevirtual 163, 3) := dk_182 0 163 (dk_at dksX6_newName_1 5 rfl rfl)
theorem dX6_newName_32 : decode cX6_newName 32 = .ok (.ireturn, 1) := dk_172 (dk_at dksX6_newName_1 8 rfl rfl)
theorem dX6_newName_33 : decode cX6_newName 33 = .ok (.aload_n 1, 1) := dk_43 (dk_at dksX6_newName_1 9 rfl rfl)
theorem dX6_newName_34 : decode cX6_newName 34 = .ok (.iload_n 2, 1) := dk_28 (dk_at dksX6_newName_1 10 rfl rfl)
theorem dX6_newName_35 : decode cX6_newName 35 = .ok (.iload_n 3, 1) := dk_29 (dk_at dksX6_newName_1 11 rfl rfl)
theorem dX6_newName_36 : decode cX6_newName 36 = .ok (.iadd, 1) := dk_96 (dk_at dksX6_newName_1 12 rfl rfl)
theorem dX6_newName_37 : decode cX6_newName 37 = .ok (.aload_n 0, 1) := dk_42 (dk_at dksX6_newName_1 13 rfl rfl)
theorem dX6_newName_38 : decode cX6_newName 38 = .ok (.getfield 150, 3) := dk_180 0 150 (dk_at dksX6_newName_1 14 rfl rfl)
theorem dX6_newName_41 : decode cX6_newName 41 = .ok (.iastore, 1) := dk_79 (dk_at dksX6_newName_1 17 rfl rfl)
theorem dX6_newName_42 : decode cX6_newName 42 = .ok (.aload_n 0, 1) := dk_42 (dk_at dksX6_newName_1 18 rfl rfl)
theorem dX6_newName_43 : decode cX6_newName 43 = .ok (.invokevirtual 173, 3) := dk_182 0 173 (dk_at dksX6_newName_1 19 rfl rfl)
theorem dX6_newName_46 : decode cX6_newName 46 = .ok (.iconst 1, 1) := dk_4 (dk_at dksX6_newName_1 22 rfl rfl)
theorem dX6_newName_47 : decode cX6_newName 47 = .ok (.ireturn, 1) := dk_172 (dk_at dksX6_newName_1 23 rfl rfl)
abbrev cX6_find : ByteArray := prog_20_method_23_code
def yX6_find : MethodName := ⟨RX6, "find", "([IIII)I"⟩
def dkwX6_find_1 : List UInt8 := [132, 4, 1, 167, 255, 234, 2, 172]
abbrev dktX6_find_1 : List UInt8 := dkwX6_find_1 ++ []
def dkwX6_find_0 : List UInt8 := [3, 54, 4, 21, 4, 28, 162, 0, 22, 42, 27, 21, 4, 96, 46, 29, 160, 0, 6, 21, 4, 172]
abbrev dktX6_find_0 : List UInt8 := dkwX6_find_0 ++ dktX6_find_1
theorem dksX6_find_0 : cX6_find.data.toList.drop 0 = dktX6_find_0 := by decide +kernel
theorem dksX6_find_1 : cX6_find.data.toList.drop 22 = dktX6_find_1 := dk_seg dksX6_find_0 22 rfl rfl
theorem dX6_find_0 : decode cX6_find 0 = .ok (.iconst 0, 1) := dk_3 (dk_at dksX6_find_0 0 rfl rfl)
theorem dX6_find_1 : decode cX6_find 1 = .ok (.istore 4, 2) := dk_54 4 (dk_at dksX6_find_0 1 rfl rfl)
theorem dX6_find_3 : decode cX6_find 3 = .ok (.iload 4, 2) := dk_21 4 (dk_at dksX6_find_0 3 rfl rfl)
theorem dX6_find_5 : decode cX6_find 5 = .ok (.iload_n 2, 1) := dk_28 (dk_at dksX6_find_0 5 rfl rfl)
theorem dX6_find_6 : decode cX6_find 6 = .ok (.if_icmp .ge 22, 3) := dk_162 0 22 (dk_at dksX6_find_0 6 rfl rfl)
theorem dX6_find_9 : decode cX6_find 9 = .ok (.aload_n 0, 1) := dk_42 (dk_at dksX6_find_0 9 rfl rfl)
theorem dX6_find_10 : decode cX6_find 10 = .ok (.iload_n 1, 1) := dk_27 (dk_at dksX6_find_0 10 rfl rfl)
theorem dX6_find_11 : decode cX6_find 11 = .ok (.iload 4, 2) := dk_21 4 (dk_at dksX6_find_0 11 rfl rfl)
theorem dX6_find_13 : decode cX6_find 13 = .ok (.iadd, 1) := dk_96 (dk_at dksX6_find_0 13 rfl rfl)
theorem dX6_find_14 : decode cX6_find 14 = .ok (.iaload, 1) := dk_46 (dk_at dksX6_find_0 14 rfl rfl)
theorem dX6_find_15 : decode cX6_find 15 = .ok (.iload_n 3, 1) := dk_29 (dk_at dksX6_find_0 15 rfl rfl)
theorem dX6_find_16 : decode cX6_find 16 = .ok (.if_icmp .ne 6, 3) := dk_160 0 6 (dk_at dksX6_find_0 16 rfl rfl)
theorem dX6_find_19 : decode cX6_find 19 = .ok (.iload 4, 2) := dk_21 4 (dk_at dksX6_find_0 19 rfl rfl)
theorem dX6_find_21 : decode cX6_find 21 = .ok (.ireturn, 1) := dk_172 (dk_at dksX6_find_0 21 rfl rfl)
theorem dX6_find_22 : decode cX6_find 22 = .ok (.iinc 4 1, 3) := dk_132 4 1 (dk_at dksX6_find_1 0 rfl rfl)
theorem dX6_find_25 : decode cX6_find 25 = .ok (.goto (-22), 3) := dk_167 255 234 (dk_at dksX6_find_1 3 rfl rfl)
theorem dX6_find_28 : decode cX6_find 28 = .ok (.iconst (-1), 1) := dk_2 (dk_at dksX6_find_1 6 rfl rfl)
theorem dX6_find_29 : decode cX6_find 29 = .ok (.ireturn, 1) := dk_172 (dk_at dksX6_find_1 7 rfl rfl)
abbrev cX6_number : ByteArray := prog_20_method_16_code
def yX6_number : MethodName := ⟨RX6, "number", "(II)Z"⟩
def dkwX6_number_1 : List UInt8 := [154, 0, 9, 42, 5, 182, 0, 163, 172, 42, 42, 180, 0, 150, 181, 0, 170, 42, 182, 0, 173, 4, 172]
abbrev dktX6_number_1 : List UInt8 := dkwX6_number_1 ++ []
def dkwX6_number_0 : List UInt8 := [42, 180, 0, 139, 6, 159, 0, 9, 42, 4, 182, 0, 163, 172, 42, 180, 0, 150, 27, 28, 184, 0, 166]
abbrev dktX6_number_0 : List UInt8 := dkwX6_number_0 ++ dktX6_number_1
theorem dksX6_number_0 : cX6_number.data.toList.drop 0 = dktX6_number_0 := by decide +kernel
theorem dksX6_number_1 : cX6_number.data.toList.drop 23 = dktX6_number_1 := dk_seg dksX6_number_0 23 rfl rfl
theorem dX6_number_0 : decode cX6_number 0 = .ok (.aload_n 0, 1) := dk_42 (dk_at dksX6_number_0 0 rfl rfl)
theorem dX6_number_1 : decode cX6_number 1 = .ok (.getfield 139, 3) := dk_180 0 139 (dk_at dksX6_number_0 1 rfl rfl)
theorem dX6_number_4 : decode cX6_number 4 = .ok (.iconst 3, 1) := dk_6 (dk_at dksX6_number_0 4 rfl rfl)
theorem dX6_number_5 : decode cX6_number 5 = .ok (.if_icmp .eq 9, 3) := dk_159 0 9 (dk_at dksX6_number_0 5 rfl rfl)
theorem dX6_number_8 : decode cX6_number 8 = .ok (.aload_n 0, 1) := dk_42 (dk_at dksX6_number_0 8 rfl rfl)
theorem dX6_number_9 : decode cX6_number 9 = .ok (.iconst 1, 1) := dk_4 (dk_at dksX6_number_0 9 rfl rfl)
theorem dX6_number_10 : decode cX6_number 10 = .ok (.invokevirtual 163, 3) := dk_182 0 163 (dk_at dksX6_number_0 10 rfl rfl)
theorem dX6_number_13 : decode cX6_number 13 = .ok (.ireturn, 1) := dk_172 (dk_at dksX6_number_0 13 rfl rfl)
theorem dX6_number_14 : decode cX6_number 14 = .ok (.aload_n 0, 1) := dk_42 (dk_at dksX6_number_0 14 rfl rfl)
theorem dX6_number_15 : decode cX6_number 15 = .ok (.getfield 150, 3) := dk_180 0 150 (dk_at dksX6_number_0 15 rfl rfl)
theorem dX6_number_18 : decode cX6_number 18 = .ok (.iload_n 1, 1) := dk_27 (dk_at dksX6_number_0 18 rfl rfl)
theorem dX6_number_19 : decode cX6_number 19 = .ok (.iload_n 2, 1) := dk_28 (dk_at dksX6_number_0 19 rfl rfl)
theorem dX6_number_20 : decode cX6_number 20 = .ok (.invokestatic 166, 3) := dk_184 0 166 (dk_at dksX6_number_0 20 rfl rfl)
theorem dX6_number_23 : decode cX6_number 23 = .ok (.ifCond .ne 9, 3) := dk_154 0 9 (dk_at dksX6_number_1 0 rfl rfl)
theorem dX6_number_26 : decode cX6_number 26 = .ok (.aload_n 0, 1) := dk_42 (dk_at dksX6_number_1 3 rfl rfl)
theorem dX6_number_27 : decode cX6_number 27 = .ok (.iconst 2, 1) := dk_5 (dk_at dksX6_number_1 4 rfl rfl)
theorem dX6_number_28 : decode cX6_number 28 = .ok (.invokevirtual 163, 3) := dk_182 0 163 (dk_at dksX6_number_1 5 rfl rfl)
theorem dX6_number_31 : decode cX6_number 31 = .ok (.ireturn, 1) := dk_172 (dk_at dksX6_number_1 8 rfl rfl)
theorem dX6_number_32 : decode cX6_number 32 = .ok (.aload_n 0, 1) := dk_42 (dk_at dksX6_number_1 9 rfl rfl)
theorem dX6_number_33 : decode cX6_number 33 = .ok (.aload_n 0, 1) := dk_42 (dk_at dksX6_number_1 10 rfl rfl)
theorem dX6_number_34 : decode cX6_number 34 = .ok (.getfield 150, 3) := dk_180 0 150 (dk_at dksX6_number_1 11 rfl rfl)
theorem dX6_number_37 : decode cX6_number 37 = .ok (.putfield 170, 3) := dk_181 0 170 (dk_at dksX6_number_1 14 rfl rfl)
theorem dX6_number_40 : decode cX6_number 40 = .ok (.aload_n 0, 1) := dk_42 (dk_at dksX6_number_1 17 rfl rfl)
theorem dX6_number_41 : decode cX6_number 41 = .ok (.invokevirtual 173, 3) := dk_182 0 173 (dk_at dksX6_number_1 18 rfl rfl)
theorem dX6_number_44 : decode cX6_number 44 = .ok (.iconst 1, 1) := dk_4 (dk_at dksX6_number_1 21 rfl rfl)
theorem dX6_number_45 : decode cX6_number 45 = .ok (.ireturn, 1) := dk_172 (dk_at dksX6_number_1 22 rfl rfl)
abbrev cX6_isIn : ByteArray := prog_20_method_4_code
def yX6_isIn : MethodName := ⟨RX6, "isIn", "(III)Z"⟩
def dkwX6_isIn_0 : List UInt8 := [26, 27, 161, 0, 12, 26, 28, 163, 0, 7, 4, 167, 0, 4, 3, 172]
abbrev dktX6_isIn_0 : List UInt8 := dkwX6_isIn_0 ++ []
theorem dksX6_isIn_0 : cX6_isIn.data.toList.drop 0 = dktX6_isIn_0 := by decide +kernel
theorem dX6_isIn_0 : decode cX6_isIn 0 = .ok (.iload_n 0, 1) := dk_26 (dk_at dksX6_isIn_0 0 rfl rfl)
theorem dX6_isIn_1 : decode cX6_isIn 1 = .ok (.iload_n 1, 1) := dk_27 (dk_at dksX6_isIn_0 1 rfl rfl)
theorem dX6_isIn_2 : decode cX6_isIn 2 = .ok (.if_icmp .lt 12, 3) := dk_161 0 12 (dk_at dksX6_isIn_0 2 rfl rfl)
theorem dX6_isIn_5 : decode cX6_isIn 5 = .ok (.iload_n 0, 1) := dk_26 (dk_at dksX6_isIn_0 5 rfl rfl)
theorem dX6_isIn_6 : decode cX6_isIn 6 = .ok (.iload_n 2, 1) := dk_28 (dk_at dksX6_isIn_0 6 rfl rfl)
theorem dX6_isIn_7 : decode cX6_isIn 7 = .ok (.if_icmp .gt 7, 3) := dk_163 0 7 (dk_at dksX6_isIn_0 7 rfl rfl)
theorem dX6_isIn_10 : decode cX6_isIn 10 = .ok (.iconst 1, 1) := dk_4 (dk_at dksX6_isIn_0 10 rfl rfl)
theorem dX6_isIn_11 : decode cX6_isIn 11 = .ok (.goto 4, 3) := dk_167 0 4 (dk_at dksX6_isIn_0 11 rfl rfl)
theorem dX6_isIn_14 : decode cX6_isIn 14 = .ok (.iconst 0, 1) := dk_3 (dk_at dksX6_isIn_0 14 rfl rfl)
theorem dX6_isIn_15 : decode cX6_isIn 15 = .ok (.ireturn, 1) := dk_172 (dk_at dksX6_isIn_0 15 rfl rfl)
abbrev cX6_signed : ByteArray := prog_20_method_17_code
def yX6_signed : MethodName := ⟨RX6, "signed", "(I)Z"⟩
def dkwX6_signed_1 : List UInt8 := [3, 172, 42, 28, 153, 0, 11, 42, 180, 0, 170, 116, 167, 0, 7, 42, 180, 0, 170, 181, 0, 170, 4, 172]
abbrev dktX6_signed_1 : List UInt8 := dkwX6_signed_1 ++ []
def dkwX6_signed_0 : List UInt8 := [42, 16, 45, 182, 0, 176, 61, 28, 153, 0, 7, 42, 182, 0, 173, 42, 3, 27, 182, 0, 179, 154, 0, 5]
abbrev dktX6_signed_0 : List UInt8 := dkwX6_signed_0 ++ dktX6_signed_1
theorem dksX6_signed_0 : cX6_signed.data.toList.drop 0 = dktX6_signed_0 := by decide +kernel
theorem dksX6_signed_1 : cX6_signed.data.toList.drop 24 = dktX6_signed_1 := dk_seg dksX6_signed_0 24 rfl rfl
theorem dX6_signed_0 : decode cX6_signed 0 = .ok (.aload_n 0, 1) := dk_42 (dk_at dksX6_signed_0 0 rfl rfl)
theorem dX6_signed_1 : decode cX6_signed 1 = .ok (.bipush 45, 2) := dk_16 45 (dk_at dksX6_signed_0 1 rfl rfl)
theorem dX6_signed_3 : decode cX6_signed 3 = .ok (.invokevirtual 176, 3) := dk_182 0 176 (dk_at dksX6_signed_0 3 rfl rfl)
theorem dX6_signed_6 : decode cX6_signed 6 = .ok (.istore_n 2, 1) := dk_61 (dk_at dksX6_signed_0 6 rfl rfl)
theorem dX6_signed_7 : decode cX6_signed 7 = .ok (.iload_n 2, 1) := dk_28 (dk_at dksX6_signed_0 7 rfl rfl)
theorem dX6_signed_8 : decode cX6_signed 8 = .ok (.ifCond .eq 7, 3) := dk_153 0 7 (dk_at dksX6_signed_0 8 rfl rfl)
theorem dX6_signed_11 : decode cX6_signed 11 = .ok (.aload_n 0, 1) := dk_42 (dk_at dksX6_signed_0 11 rfl rfl)
theorem dX6_signed_12 : decode cX6_signed 12 = .ok (.invokevirtual 173, 3) := dk_182 0 173 (dk_at dksX6_signed_0 12 rfl rfl)
theorem dX6_signed_15 : decode cX6_signed 15 = .ok (.aload_n 0, 1) := dk_42 (dk_at dksX6_signed_0 15 rfl rfl)
theorem dX6_signed_16 : decode cX6_signed 16 = .ok (.iconst 0, 1) := dk_3 (dk_at dksX6_signed_0 16 rfl rfl)
theorem dX6_signed_17 : decode cX6_signed 17 = .ok (.iload_n 1, 1) := dk_27 (dk_at dksX6_signed_0 17 rfl rfl)
theorem dX6_signed_18 : decode cX6_signed 18 = .ok (.invokevirtual 179, 3) := dk_182 0 179 (dk_at dksX6_signed_0 18 rfl rfl)
theorem dX6_signed_21 : decode cX6_signed 21 = .ok (.ifCond .ne 5, 3) := dk_154 0 5 (dk_at dksX6_signed_0 21 rfl rfl)
theorem dX6_signed_24 : decode cX6_signed 24 = .ok (.iconst 0, 1) := dk_3 (dk_at dksX6_signed_1 0 rfl rfl)
theorem dX6_signed_25 : decode cX6_signed 25 = .ok (.ireturn, 1) := dk_172 (dk_at dksX6_signed_1 1 rfl rfl)
theorem dX6_signed_26 : decode cX6_signed 26 = .ok (.aload_n 0, 1) := dk_42 (dk_at dksX6_signed_1 2 rfl rfl)
theorem dX6_signed_27 : decode cX6_signed 27 = .ok (.iload_n 2, 1) := dk_28 (dk_at dksX6_signed_1 3 rfl rfl)
theorem dX6_signed_28 : decode cX6_signed 28 = .ok (.ifCond .eq 11, 3) := dk_153 0 11 (dk_at dksX6_signed_1 4 rfl rfl)
theorem dX6_signed_31 : decode cX6_signed 31 = .ok (.aload_n 0, 1) := dk_42 (dk_at dksX6_signed_1 7 rfl rfl)
theorem dX6_signed_32 : decode cX6_signed 32 = .ok (.getfield 170, 3) := dk_180 0 170 (dk_at dksX6_signed_1 8 rfl rfl)
theorem dX6_signed_35 : decode cX6_signed 35 = .ok (.ineg, 1) := dk_116 (dk_at dksX6_signed_1 11 rfl rfl)
theorem dX6_signed_36 : decode cX6_signed 36 = .ok (.goto 7, 3) := dk_167 0 7 (dk_at dksX6_signed_1 12 rfl rfl)
theorem dX6_signed_39 : decode cX6_signed 39 = .ok (.aload_n 0, 1) := dk_42 (dk_at dksX6_signed_1 15 rfl rfl)
theorem dX6_signed_40 : decode cX6_signed 40 = .ok (.getfield 170, 3) := dk_180 0 170 (dk_at dksX6_signed_1 16 rfl rfl)
theorem dX6_signed_43 : decode cX6_signed 43 = .ok (.putfield 170, 3) := dk_181 0 170 (dk_at dksX6_signed_1 19 rfl rfl)
theorem dX6_signed_46 : decode cX6_signed 46 = .ok (.iconst 1, 1) := dk_4 (dk_at dksX6_signed_1 22 rfl rfl)
theorem dX6_signed_47 : decode cX6_signed 47 = .ok (.ireturn, 1) := dk_172 (dk_at dksX6_signed_1 23 rfl rfl)
abbrev cX6_isSign : ByteArray := prog_20_method_15_code
def yX6_isSign : MethodName := ⟨RX6, "isSign", "(I)Z"⟩
def dkwX6_isSign_0 : List UInt8 := [42, 180, 0, 139, 7, 160, 0, 15, 42, 180, 0, 150, 27, 160, 0, 7, 4, 167, 0, 4, 3, 172]
abbrev dktX6_isSign_0 : List UInt8 := dkwX6_isSign_0 ++ []
theorem dksX6_isSign_0 : cX6_isSign.data.toList.drop 0 = dktX6_isSign_0 := by decide +kernel
theorem dX6_isSign_0 : decode cX6_isSign 0 = .ok (.aload_n 0, 1) := dk_42 (dk_at dksX6_isSign_0 0 rfl rfl)
theorem dX6_isSign_1 : decode cX6_isSign 1 = .ok (.getfield 139, 3) := dk_180 0 139 (dk_at dksX6_isSign_0 1 rfl rfl)
theorem dX6_isSign_4 : decode cX6_isSign 4 = .ok (.iconst 4, 1) := dk_7 (dk_at dksX6_isSign_0 4 rfl rfl)
theorem dX6_isSign_5 : decode cX6_isSign 5 = .ok (.if_icmp .ne 15, 3) := dk_160 0 15 (dk_at dksX6_isSign_0 5 rfl rfl)
theorem dX6_isSign_8 : decode cX6_isSign 8 = .ok (.aload_n 0, 1) := dk_42 (dk_at dksX6_isSign_0 8 rfl rfl)
theorem dX6_isSign_9 : decode cX6_isSign 9 = .ok (.getfield 150, 3) := dk_180 0 150 (dk_at dksX6_isSign_0 9 rfl rfl)
theorem dX6_isSign_12 : decode cX6_isSign 12 = .ok (.iload_n 1, 1) := dk_27 (dk_at dksX6_isSign_0 12 rfl rfl)
theorem dX6_isSign_13 : decode cX6_isSign 13 = .ok (.if_icmp .ne 7, 3) := dk_160 0 7 (dk_at dksX6_isSign_0 13 rfl rfl)
theorem dX6_isSign_16 : decode cX6_isSign 16 = .ok (.iconst 1, 1) := dk_4 (dk_at dksX6_isSign_0 16 rfl rfl)
theorem dX6_isSign_17 : decode cX6_isSign 17 = .ok (.goto 4, 3) := dk_167 0 4 (dk_at dksX6_isSign_0 17 rfl rfl)
theorem dX6_isSign_20 : decode cX6_isSign 20 = .ok (.iconst 0, 1) := dk_3 (dk_at dksX6_isSign_0 20 rfl rfl)
theorem dX6_isSign_21 : decode cX6_isSign 21 = .ok (.ireturn, 1) := dk_172 (dk_at dksX6_isSign_0 21 rfl rfl)
abbrev cX6_isKey : ByteArray := prog_20_method_14_code
def yX6_isKey : MethodName := ⟨RX6, "isKey", "(I)Z"⟩
def dkwX6_isKey_0 : List UInt8 := [42, 180, 0, 139, 4, 160, 0, 15, 42, 180, 0, 150, 27, 160, 0, 7, 4, 167, 0, 4, 3, 172]
abbrev dktX6_isKey_0 : List UInt8 := dkwX6_isKey_0 ++ []
theorem dksX6_isKey_0 : cX6_isKey.data.toList.drop 0 = dktX6_isKey_0 := by decide +kernel
theorem dX6_isKey_0 : decode cX6_isKey 0 = .ok (.aload_n 0, 1) := dk_42 (dk_at dksX6_isKey_0 0 rfl rfl)
theorem dX6_isKey_1 : decode cX6_isKey 1 = .ok (.getfield 139, 3) := dk_180 0 139 (dk_at dksX6_isKey_0 1 rfl rfl)
theorem dX6_isKey_4 : decode cX6_isKey 4 = .ok (.iconst 1, 1) := dk_4 (dk_at dksX6_isKey_0 4 rfl rfl)
theorem dX6_isKey_5 : decode cX6_isKey 5 = .ok (.if_icmp .ne 15, 3) := dk_160 0 15 (dk_at dksX6_isKey_0 5 rfl rfl)
theorem dX6_isKey_8 : decode cX6_isKey 8 = .ok (.aload_n 0, 1) := dk_42 (dk_at dksX6_isKey_0 8 rfl rfl)
theorem dX6_isKey_9 : decode cX6_isKey 9 = .ok (.getfield 150, 3) := dk_180 0 150 (dk_at dksX6_isKey_0 9 rfl rfl)
theorem dX6_isKey_12 : decode cX6_isKey 12 = .ok (.iload_n 1, 1) := dk_27 (dk_at dksX6_isKey_0 12 rfl rfl)
theorem dX6_isKey_13 : decode cX6_isKey 13 = .ok (.if_icmp .ne 7, 3) := dk_160 0 7 (dk_at dksX6_isKey_0 13 rfl rfl)
theorem dX6_isKey_16 : decode cX6_isKey 16 = .ok (.iconst 1, 1) := dk_4 (dk_at dksX6_isKey_0 16 rfl rfl)
theorem dX6_isKey_17 : decode cX6_isKey 17 = .ok (.goto 4, 3) := dk_167 0 4 (dk_at dksX6_isKey_0 17 rfl rfl)
theorem dX6_isKey_20 : decode cX6_isKey 20 = .ok (.iconst 0, 1) := dk_3 (dk_at dksX6_isKey_0 20 rfl rfl)
theorem dX6_isKey_21 : decode cX6_isKey 21 = .ok (.ireturn, 1) := dk_172 (dk_at dksX6_isKey_0 21 rfl rfl)
abbrev cX6_feastLine : ByteArray := prog_20_method_31_code
def yX6_feastLine : MethodName := ⟨RX6, "feastLine", "()Z"⟩
def dkwX6_feastLine_3 : List UInt8 := [180, 0, 201, 79, 42, 89, 180, 0, 189, 4, 96, 181, 0, 189, 4, 172]
abbrev dktX6_feastLine_3 : List UInt8 := dkwX6_feastLine_3 ++ []
def dkwX6_feastLine_2 : List UInt8 := [180, 0, 201, 79, 42, 182, 1, 13, 154, 0, 5, 3, 172, 42, 180, 0, 35, 7, 42, 180, 0, 189, 96, 42]
abbrev dktX6_feastLine_2 : List UInt8 := dkwX6_feastLine_2 ++ dktX6_feastLine_3
def dkwX6_feastLine_1 : List UInt8 := [42, 180, 0, 189, 182, 1, 3, 154, 0, 5, 3, 172, 42, 180, 0, 32, 7, 42, 180, 0, 189, 96, 42]
abbrev dktX6_feastLine_1 : List UInt8 := dkwX6_feastLine_1 ++ dktX6_feastLine_2
def dkwX6_feastLine_0 : List UInt8 := [42, 180, 0, 189, 7, 160, 0, 9, 42, 5, 182, 0, 163, 172, 42, 182, 0, 173, 42, 42, 180, 0, 29, 7]
abbrev dktX6_feastLine_0 : List UInt8 := dkwX6_feastLine_0 ++ dktX6_feastLine_1
theorem dksX6_feastLine_0 : cX6_feastLine.data.toList.drop 0 = dktX6_feastLine_0 := by decide +kernel
theorem dksX6_feastLine_1 : cX6_feastLine.data.toList.drop 24 = dktX6_feastLine_1 := dk_seg dksX6_feastLine_0 24 rfl rfl
theorem dksX6_feastLine_2 : cX6_feastLine.data.toList.drop 47 = dktX6_feastLine_2 := dk_seg dksX6_feastLine_1 23 rfl rfl
theorem dksX6_feastLine_3 : cX6_feastLine.data.toList.drop 71 = dktX6_feastLine_3 := dk_seg dksX6_feastLine_2 24 rfl rfl
theorem dX6_feastLine_0 : decode cX6_feastLine 0 = .ok (.aload_n 0, 1) := dk_42 (dk_at dksX6_feastLine_0 0 rfl rfl)
theorem dX6_feastLine_1 : decode cX6_feastLine 1 = .ok (.getfield 189, 3) := dk_180 0 189 (dk_at dksX6_feastLine_0 1 rfl rfl)
theorem dX6_feastLine_4 : decode cX6_feastLine 4 = .ok (.iconst 4, 1) := dk_7 (dk_at dksX6_feastLine_0 4 rfl rfl)
theorem dX6_feastLine_5 : decode cX6_feastLine 5 = .ok (.if_icmp .ne 9, 3) := dk_160 0 9 (dk_at dksX6_feastLine_0 5 rfl rfl)
theorem dX6_feastLine_8 : decode cX6_feastLine 8 = .ok (.aload_n 0, 1) := dk_42 (dk_at dksX6_feastLine_0 8 rfl rfl)
theorem dX6_feastLine_9 : decode cX6_feastLine 9 = .ok (.iconst 2, 1) := dk_5 (dk_at dksX6_feastLine_0 9 rfl rfl)
theorem dX6_feastLine_10 : decode cX6_feastLine 10 = .ok (.invokevirtual 163, 3) := dk_182 0 163 (dk_at dksX6_feastLine_0 10 rfl rfl)
theorem dX6_feastLine_13 : decode cX6_feastLine 13 = .ok (.ireturn, 1) := dk_172 (dk_at dksX6_feastLine_0 13 rfl rfl)
theorem dX6_feastLine_14 : decode cX6_feastLine 14 = .ok (.aload_n 0, 1) := dk_42 (dk_at dksX6_feastLine_0 14 rfl rfl)
theorem dX6_feastLine_15 : decode cX6_feastLine 15 = .ok (.invokevirtual 173, 3) := dk_182 0 173 (dk_at dksX6_feastLine_0 15 rfl rfl)
theorem dX6_feastLine_18 : decode cX6_feastLine 18 = .ok (.aload_n 0, 1) := dk_42 (dk_at dksX6_feastLine_0 18 rfl rfl)
theorem dX6_feastLine_19 : decode cX6_feastLine 19 = .ok (.aload_n 0, 1) := dk_42 (dk_at dksX6_feastLine_0 19 rfl rfl)
theorem dX6_feastLine_20 : decode cX6_feastLine 20 = .ok (.getfield 29, 3) := dk_180 0 29 (dk_at dksX6_feastLine_0 20 rfl rfl)
theorem dX6_feastLine_23 : decode cX6_feastLine 23 = .ok (.iconst 4, 1) := dk_7 (dk_at dksX6_feastLine_0 23 rfl rfl)
theorem dX6_feastLine_24 : decode cX6_feastLine 24 = .ok (.aload_n 0, 1) := dk_42 (dk_at dksX6_feastLine_1 0 rfl rfl)
theorem dX6_feastLine_25 : decode cX6_feastLine 25 = .ok (.getfield 189, 3) := dk_180 0 189 (dk_at dksX6_feastLine_1 1 rfl rfl)
theorem dX6_feastLine_28 : decode cX6_feastLine 28 = .ok (.invokevirtual 259, 3) := dk_182 1 3 (dk_at dksX6_feastLine_1 4 rfl rfl)
theorem dX6_feastLine_31 : decode cX6_feastLine 31 = .ok (.ifCond .ne 5, 3) := dk_154 0 5 (dk_at dksX6_feastLine_1 7 rfl rfl)
theorem dX6_feastLine_34 : decode cX6_feastLine 34 = .ok (.iconst 0, 1) := dk_3 (dk_at dksX6_feastLine_1 10 rfl rfl)
theorem dX6_feastLine_35 : decode cX6_feastLine 35 = .ok (.ireturn, 1) := dk_172 (dk_at dksX6_feastLine_1 11 rfl rfl)
theorem dX6_feastLine_36 : decode cX6_feastLine 36 = .ok (.aload_n 0, 1) := dk_42 (dk_at dksX6_feastLine_1 12 rfl rfl)
theorem dX6_feastLine_37 : decode cX6_feastLine 37 = .ok (.getfield 32, 3) := dk_180 0 32 (dk_at dksX6_feastLine_1 13 rfl rfl)
theorem dX6_feastLine_40 : decode cX6_feastLine 40 = .ok (.iconst 4, 1) := dk_7 (dk_at dksX6_feastLine_1 16 rfl rfl)
theorem dX6_feastLine_41 : decode cX6_feastLine 41 = .ok (.aload_n 0, 1) := dk_42 (dk_at dksX6_feastLine_1 17 rfl rfl)
theorem dX6_feastLine_42 : decode cX6_feastLine 42 = .ok (.getfield 189, 3) := dk_180 0 189 (dk_at dksX6_feastLine_1 18 rfl rfl)
theorem dX6_feastLine_45 : decode cX6_feastLine 45 = .ok (.iadd, 1) := dk_96 (dk_at dksX6_feastLine_1 21 rfl rfl)
theorem dX6_feastLine_46 : decode cX6_feastLine 46 = .ok (.aload_n 0, 1) := dk_42 (dk_at dksX6_feastLine_1 22 rfl rfl)
theorem dX6_feastLine_47 : decode cX6_feastLine 47 = .ok (.getfield 201, 3) := dk_180 0 201 (dk_at dksX6_feastLine_2 0 rfl rfl)
theorem dX6_feastLine_50 : decode cX6_feastLine 50 = .ok (.iastore, 1) := dk_79 (dk_at dksX6_feastLine_2 3 rfl rfl)
theorem dX6_feastLine_51 : decode cX6_feastLine 51 = .ok (.aload_n 0, 1) := dk_42 (dk_at dksX6_feastLine_2 4 rfl rfl)
theorem dX6_feastLine_52 : decode cX6_feastLine 52 = .ok (.invokevirtual 269, 3) := dk_182 1 13 (dk_at dksX6_feastLine_2 5 rfl rfl)
theorem dX6_feastLine_55 : decode cX6_feastLine 55 = .ok (.ifCond .ne 5, 3) := dk_154 0 5 (dk_at dksX6_feastLine_2 8 rfl rfl)
theorem dX6_feastLine_58 : decode cX6_feastLine 58 = .ok (.iconst 0, 1) := dk_3 (dk_at dksX6_feastLine_2 11 rfl rfl)
theorem dX6_feastLine_59 : decode cX6_feastLine 59 = .ok (.ireturn, 1) := dk_172 (dk_at dksX6_feastLine_2 12 rfl rfl)
theorem dX6_feastLine_60 : decode cX6_feastLine 60 = .ok (.aload_n 0, 1) := dk_42 (dk_at dksX6_feastLine_2 13 rfl rfl)
theorem dX6_feastLine_61 : decode cX6_feastLine 61 = .ok (.getfield 35, 3) := dk_180 0 35 (dk_at dksX6_feastLine_2 14 rfl rfl)
theorem dX6_feastLine_64 : decode cX6_feastLine 64 = .ok (.iconst 4, 1) := dk_7 (dk_at dksX6_feastLine_2 17 rfl rfl)
theorem dX6_feastLine_65 : decode cX6_feastLine 65 = .ok (.aload_n 0, 1) := dk_42 (dk_at dksX6_feastLine_2 18 rfl rfl)
theorem dX6_feastLine_66 : decode cX6_feastLine 66 = .ok (.getfield 189, 3) := dk_180 0 189 (dk_at dksX6_feastLine_2 19 rfl rfl)
theorem dX6_feastLine_69 : decode cX6_feastLine 69 = .ok (.iadd, 1) := dk_96 (dk_at dksX6_feastLine_2 22 rfl rfl)
theorem dX6_feastLine_70 : decode cX6_feastLine 70 = .ok (.aload_n 0, 1) := dk_42 (dk_at dksX6_feastLine_2 23 rfl rfl)
theorem dX6_feastLine_71 : decode cX6_feastLine 71 = .ok (.getfield 201, 3) := dk_180 0 201 (dk_at dksX6_feastLine_3 0 rfl rfl)
theorem dX6_feastLine_74 : decode cX6_feastLine 74 = .ok (.iastore, 1) := dk_79 (dk_at dksX6_feastLine_3 3 rfl rfl)
theorem dX6_feastLine_75 : decode cX6_feastLine 75 = .ok (.aload_n 0, 1) := dk_42 (dk_at dksX6_feastLine_3 4 rfl rfl)
theorem dX6_feastLine_76 : decode cX6_feastLine 76 = .ok (.dup, 1) := dk_89 (dk_at dksX6_feastLine_3 5 rfl rfl)
theorem dX6_feastLine_77 : decode cX6_feastLine 77 = .ok (.getfield 189, 3) := dk_180 0 189 (dk_at dksX6_feastLine_3 6 rfl rfl)
theorem dX6_feastLine_80 : decode cX6_feastLine 80 = .ok (.iconst 1, 1) := dk_4 (dk_at dksX6_feastLine_3 9 rfl rfl)
theorem dX6_feastLine_81 : decode cX6_feastLine 81 = .ok (.iadd, 1) := dk_96 (dk_at dksX6_feastLine_3 10 rfl rfl)
theorem dX6_feastLine_82 : decode cX6_feastLine 82 = .ok (.putfield 189, 3) := dk_181 0 189 (dk_at dksX6_feastLine_3 11 rfl rfl)
theorem dX6_feastLine_85 : decode cX6_feastLine 85 = .ok (.iconst 1, 1) := dk_4 (dk_at dksX6_feastLine_3 14 rfl rfl)
theorem dX6_feastLine_86 : decode cX6_feastLine 86 = .ok (.ireturn, 1) := dk_172 (dk_at dksX6_feastLine_3 15 rfl rfl)
abbrev cX6_sumRead : ByteArray := prog_20_method_51_code
def yX6_sumRead : MethodName := ⟨RX6, "sumRead", "()Z"⟩
def dkwX6_sumRead_3 : List UInt8 := [154, 255, 212, 3, 172, 42, 4, 182, 1, 110, 4, 172]
abbrev dktX6_sumRead_3 : List UInt8 := dkwX6_sumRead_3 ++ []
def dkwX6_sumRead_2 : List UInt8 := [158, 0, 29, 42, 180, 1, 107, 153, 0, 13, 42, 182, 1, 113, 153, 0, 13, 167, 255, 219, 42, 182, 1, 116]
abbrev dktX6_sumRead_2 : List UInt8 := dkwX6_sumRead_2 ++ dktX6_sumRead_3
def dkwX6_sumRead_1 : List UInt8 := [181, 1, 98, 42, 16, 59, 182, 0, 176, 153, 0, 17, 42, 180, 1, 107, 154, 0, 10, 42, 180, 1, 91]
abbrev dktX6_sumRead_1 : List UInt8 := dkwX6_sumRead_1 ++ dktX6_sumRead_2
def dkwX6_sumRead_0 : List UInt8 := [42, 3, 181, 1, 77, 42, 3, 181, 1, 74, 42, 3, 181, 1, 91, 42, 4, 181, 1, 107, 42, 4]
abbrev dktX6_sumRead_0 : List UInt8 := dkwX6_sumRead_0 ++ dktX6_sumRead_1
theorem dksX6_sumRead_0 : cX6_sumRead.data.toList.drop 0 = dktX6_sumRead_0 := by decide +kernel
theorem dksX6_sumRead_1 : cX6_sumRead.data.toList.drop 22 = dktX6_sumRead_1 := dk_seg dksX6_sumRead_0 22 rfl rfl
theorem dksX6_sumRead_2 : cX6_sumRead.data.toList.drop 45 = dktX6_sumRead_2 := dk_seg dksX6_sumRead_1 23 rfl rfl
theorem dksX6_sumRead_3 : cX6_sumRead.data.toList.drop 69 = dktX6_sumRead_3 := dk_seg dksX6_sumRead_2 24 rfl rfl
theorem dX6_sumRead_0 : decode cX6_sumRead 0 = .ok (.aload_n 0, 1) := dk_42 (dk_at dksX6_sumRead_0 0 rfl rfl)
theorem dX6_sumRead_1 : decode cX6_sumRead 1 = .ok (.iconst 0, 1) := dk_3 (dk_at dksX6_sumRead_0 1 rfl rfl)
theorem dX6_sumRead_2 : decode cX6_sumRead 2 = .ok (.putfield 333, 3) := dk_181 1 77 (dk_at dksX6_sumRead_0 2 rfl rfl)
theorem dX6_sumRead_5 : decode cX6_sumRead 5 = .ok (.aload_n 0, 1) := dk_42 (dk_at dksX6_sumRead_0 5 rfl rfl)
theorem dX6_sumRead_6 : decode cX6_sumRead 6 = .ok (.iconst 0, 1) := dk_3 (dk_at dksX6_sumRead_0 6 rfl rfl)
theorem dX6_sumRead_7 : decode cX6_sumRead 7 = .ok (.putfield 330, 3) := dk_181 1 74 (dk_at dksX6_sumRead_0 7 rfl rfl)
theorem dX6_sumRead_10 : decode cX6_sumRead 10 = .ok (.aload_n 0, 1) := dk_42 (dk_at dksX6_sumRead_0 10 rfl rfl)
theorem dX6_sumRead_11 : decode cX6_sumRead 11 = .ok (.iconst 0, 1) := dk_3 (dk_at dksX6_sumRead_0 11 rfl rfl)
theorem dX6_sumRead_12 : decode cX6_sumRead 12 = .ok (.putfield 347, 3) := dk_181 1 91 (dk_at dksX6_sumRead_0 12 rfl rfl)
theorem dX6_sumRead_15 : decode cX6_sumRead 15 = .ok (.aload_n 0, 1) := dk_42 (dk_at dksX6_sumRead_0 15 rfl rfl)
theorem dX6_sumRead_16 : decode cX6_sumRead 16 = .ok (.iconst 1, 1) := dk_4 (dk_at dksX6_sumRead_0 16 rfl rfl)
theorem dX6_sumRead_17 : decode cX6_sumRead 17 = .ok (.putfield 363, 3) := dk_181 1 107 (dk_at dksX6_sumRead_0 17 rfl rfl)
theorem dX6_sumRead_20 : decode cX6_sumRead 20 = .ok (.aload_n 0, 1) := dk_42 (dk_at dksX6_sumRead_0 20 rfl rfl)
theorem dX6_sumRead_21 : decode cX6_sumRead 21 = .ok (.iconst 1, 1) := dk_4 (dk_at dksX6_sumRead_0 21 rfl rfl)
theorem dX6_sumRead_22 : decode cX6_sumRead 22 = .ok (.putfield 354, 3) := dk_181 1 98 (dk_at dksX6_sumRead_1 0 rfl rfl)
theorem dX6_sumRead_25 : decode cX6_sumRead 25 = .ok (.aload_n 0, 1) := dk_42 (dk_at dksX6_sumRead_1 3 rfl rfl)
theorem dX6_sumRead_26 : decode cX6_sumRead 26 = .ok (.bipush 59, 2) := dk_16 59 (dk_at dksX6_sumRead_1 4 rfl rfl)
theorem dX6_sumRead_28 : decode cX6_sumRead 28 = .ok (.invokevirtual 176, 3) := dk_182 0 176 (dk_at dksX6_sumRead_1 6 rfl rfl)
theorem dX6_sumRead_31 : decode cX6_sumRead 31 = .ok (.ifCond .eq 17, 3) := dk_153 0 17 (dk_at dksX6_sumRead_1 9 rfl rfl)
theorem dX6_sumRead_34 : decode cX6_sumRead 34 = .ok (.aload_n 0, 1) := dk_42 (dk_at dksX6_sumRead_1 12 rfl rfl)
theorem dX6_sumRead_35 : decode cX6_sumRead 35 = .ok (.getfield 363, 3) := dk_180 1 107 (dk_at dksX6_sumRead_1 13 rfl rfl)
theorem dX6_sumRead_38 : decode cX6_sumRead 38 = .ok (.ifCond .ne 10, 3) := dk_154 0 10 (dk_at dksX6_sumRead_1 16 rfl rfl)
theorem dX6_sumRead_41 : decode cX6_sumRead 41 = .ok (.aload_n 0, 1) := dk_42 (dk_at dksX6_sumRead_1 19 rfl rfl)
theorem dX6_sumRead_42 : decode cX6_sumRead 42 = .ok (.getfield 347, 3) := dk_180 1 91 (dk_at dksX6_sumRead_1 20 rfl rfl)
theorem dX6_sumRead_45 : decode cX6_sumRead 45 = .ok (.ifCond .le 29, 3) := dk_158 0 29 (dk_at dksX6_sumRead_2 0 rfl rfl)
theorem dX6_sumRead_48 : decode cX6_sumRead 48 = .ok (.aload_n 0, 1) := dk_42 (dk_at dksX6_sumRead_2 3 rfl rfl)
theorem dX6_sumRead_49 : decode cX6_sumRead 49 = .ok (.getfield 363, 3) := dk_180 1 107 (dk_at dksX6_sumRead_2 4 rfl rfl)
theorem dX6_sumRead_52 : decode cX6_sumRead 52 = .ok (.ifCond .eq 13, 3) := dk_153 0 13 (dk_at dksX6_sumRead_2 7 rfl rfl)
theorem dX6_sumRead_55 : decode cX6_sumRead 55 = .ok (.aload_n 0, 1) := dk_42 (dk_at dksX6_sumRead_2 10 rfl rfl)
theorem dX6_sumRead_56 : decode cX6_sumRead 56 = .ok (.invokevirtual 369, 3) := dk_182 1 113 (dk_at dksX6_sumRead_2 11 rfl rfl)
theorem dX6_sumRead_59 : decode cX6_sumRead 59 = .ok (.ifCond .eq 13, 3) := dk_153 0 13 (dk_at dksX6_sumRead_2 14 rfl rfl)
theorem dX6_sumRead_62 : decode cX6_sumRead 62 = .ok (.goto (-37), 3) := dk_167 255 219 (dk_at dksX6_sumRead_2 17 rfl rfl)
theorem dX6_sumRead_65 : decode cX6_sumRead 65 = .ok (.aload_n 0, 1) := dk_42 (dk_at dksX6_sumRead_2 20 rfl rfl)
theorem dX6_sumRead_66 : decode cX6_sumRead 66 = .ok (.invokevirtual 372, 3) := dk_182 1 116 (dk_at dksX6_sumRead_2 21 rfl rfl)
theorem dX6_sumRead_69 : decode cX6_sumRead 69 = .ok (.ifCond .ne (-44), 3) := dk_154 255 212 (dk_at dksX6_sumRead_3 0 rfl rfl)
theorem dX6_sumRead_72 : decode cX6_sumRead 72 = .ok (.iconst 0, 1) := dk_3 (dk_at dksX6_sumRead_3 3 rfl rfl)
theorem dX6_sumRead_73 : decode cX6_sumRead 73 = .ok (.ireturn, 1) := dk_172 (dk_at dksX6_sumRead_3 4 rfl rfl)
theorem dX6_sumRead_74 : decode cX6_sumRead 74 = .ok (.aload_n 0, 1) := dk_42 (dk_at dksX6_sumRead_3 5 rfl rfl)
theorem dX6_sumRead_75 : decode cX6_sumRead 75 = .ok (.iconst 1, 1) := dk_4 (dk_at dksX6_sumRead_3 6 rfl rfl)
theorem dX6_sumRead_76 : decode cX6_sumRead 76 = .ok (.invokevirtual 366, 3) := dk_182 1 110 (dk_at dksX6_sumRead_3 7 rfl rfl)
theorem dX6_sumRead_79 : decode cX6_sumRead 79 = .ok (.iconst 1, 1) := dk_4 (dk_at dksX6_sumRead_3 10 rfl rfl)
theorem dX6_sumRead_80 : decode cX6_sumRead 80 = .ok (.ireturn, 1) := dk_172 (dk_at dksX6_sumRead_3 11 rfl rfl)
abbrev cX6_leafRead : ByteArray := prog_20_method_49_code
def yX6_leafRead : MethodName := ⟨RX6, "leafRead", "()Z"⟩
def dkwX6_leafRead_7 : List UInt8 := [182, 1, 87, 42, 3, 181, 1, 107, 42, 182, 0, 173, 4, 172]
abbrev dktX6_leafRead_7 : List UInt8 := dkwX6_leafRead_7 ++ []
def dkwX6_leafRead_6 : List UInt8 := [42, 27, 155, 0, 7, 4, 167, 0, 4, 3, 27, 155, 0, 7, 27, 167, 0, 7, 42, 180, 0, 150, 3]
abbrev dktX6_leafRead_6 : List UInt8 := dkwX6_leafRead_6 ++ dktX6_leafRead_7
def dkwX6_leafRead_5 : List UInt8 := [180, 0, 150, 17, 39, 15, 164, 0, 9, 42, 5, 182, 0, 163, 172, 42, 182, 1, 101, 154, 0, 5, 3, 172]
abbrev dktX6_leafRead_5 : List UInt8 := dkwX6_leafRead_5 ++ dktX6_leafRead_6
def dkwX6_leafRead_4 : List UInt8 := [156, 0, 17, 42, 180, 0, 139, 6, 159, 0, 9, 42, 4, 182, 0, 163, 172, 27, 156, 0, 19, 42]
abbrev dktX6_leafRead_4 : List UInt8 := dkwX6_leafRead_4 ++ dktX6_leafRead_5
def dkwX6_leafRead_3 : List UInt8 := [154, 0, 5, 3, 172, 42, 5, 182, 1, 94, 42, 182, 0, 173, 4, 172, 42, 182, 1, 104, 60, 27]
abbrev dktX6_leafRead_3 : List UInt8 := dkwX6_leafRead_3 ++ dktX6_leafRead_4
def dkwX6_leafRead_2 : List UInt8 := [4, 172, 42, 16, 18, 182, 0, 183, 153, 0, 30, 42, 180, 1, 98, 153, 0, 23, 42, 182, 1, 101]
abbrev dktX6_leafRead_2 : List UInt8 := dkwX6_leafRead_2 ++ dktX6_leafRead_3
def dkwX6_leafRead_1 : List UInt8 := [42, 89, 180, 1, 91, 4, 96, 181, 1, 91, 42, 3, 182, 1, 94, 42, 4, 181, 1, 98, 42, 182, 0, 173]
abbrev dktX6_leafRead_1 : List UInt8 := dkwX6_leafRead_1 ++ dktX6_leafRead_2
def dkwX6_leafRead_0 : List UInt8 := [42, 16, 40, 182, 0, 176, 153, 0, 44, 42, 180, 1, 91, 16, 8, 160, 0, 9, 42, 5, 182, 0, 163, 172]
abbrev dktX6_leafRead_0 : List UInt8 := dkwX6_leafRead_0 ++ dktX6_leafRead_1
theorem dksX6_leafRead_0 : cX6_leafRead.data.toList.drop 0 = dktX6_leafRead_0 := by decide +kernel
theorem dksX6_leafRead_1 : cX6_leafRead.data.toList.drop 24 = dktX6_leafRead_1 := dk_seg dksX6_leafRead_0 24 rfl rfl
theorem dksX6_leafRead_2 : cX6_leafRead.data.toList.drop 48 = dktX6_leafRead_2 := dk_seg dksX6_leafRead_1 24 rfl rfl
theorem dksX6_leafRead_3 : cX6_leafRead.data.toList.drop 70 = dktX6_leafRead_3 := dk_seg dksX6_leafRead_2 22 rfl rfl
theorem dksX6_leafRead_4 : cX6_leafRead.data.toList.drop 92 = dktX6_leafRead_4 := dk_seg dksX6_leafRead_3 22 rfl rfl
theorem dksX6_leafRead_5 : cX6_leafRead.data.toList.drop 114 = dktX6_leafRead_5 := dk_seg dksX6_leafRead_4 22 rfl rfl
theorem dksX6_leafRead_6 : cX6_leafRead.data.toList.drop 138 = dktX6_leafRead_6 := dk_seg dksX6_leafRead_5 24 rfl rfl
theorem dksX6_leafRead_7 : cX6_leafRead.data.toList.drop 161 = dktX6_leafRead_7 := dk_seg dksX6_leafRead_6 23 rfl rfl
theorem dX6_leafRead_0 : decode cX6_leafRead 0 = .ok (.aload_n 0, 1) := dk_42 (dk_at dksX6_leafRead_0 0 rfl rfl)
theorem dX6_leafRead_1 : decode cX6_leafRead 1 = .ok (.bipush 40, 2) := dk_16 40 (dk_at dksX6_leafRead_0 1 rfl rfl)
theorem dX6_leafRead_3 : decode cX6_leafRead 3 = .ok (.invokevirtual 176, 3) := dk_182 0 176 (dk_at dksX6_leafRead_0 3 rfl rfl)
theorem dX6_leafRead_6 : decode cX6_leafRead 6 = .ok (.ifCond .eq 44, 3) := dk_153 0 44 (dk_at dksX6_leafRead_0 6 rfl rfl)
theorem dX6_leafRead_9 : decode cX6_leafRead 9 = .ok (.aload_n 0, 1) := dk_42 (dk_at dksX6_leafRead_0 9 rfl rfl)
theorem dX6_leafRead_10 : decode cX6_leafRead 10 = .ok (.getfield 347, 3) := dk_180 1 91 (dk_at dksX6_leafRead_0 10 rfl rfl)
theorem dX6_leafRead_13 : decode cX6_leafRead 13 = .ok (.bipush 8, 2) := dk_16 8 (dk_at dksX6_leafRead_0 13 rfl rfl)
theorem dX6_leafRead_15 : decode cX6_leafRead 15 = .ok (.if_icmp .ne 9, 3) := dk_160 0 9 (dk_at dksX6_leafRead_0 15 rfl rfl)
theorem dX6_leafRead_18 : decode cX6_leafRead 18 = .ok (.aload_n 0, 1) := dk_42 (dk_at dksX6_leafRead_0 18 rfl rfl)
theorem dX6_leafRead_19 : decode cX6_leafRead 19 = .ok (.iconst 2, 1) := dk_5 (dk_at dksX6_leafRead_0 19 rfl rfl)
theorem dX6_leafRead_20 : decode cX6_leafRead 20 = .ok (.invokevirtual 163, 3) := dk_182 0 163 (dk_at dksX6_leafRead_0 20 rfl rfl)
theorem dX6_leafRead_23 : decode cX6_leafRead 23 = .ok (.ireturn, 1) := dk_172 (dk_at dksX6_leafRead_0 23 rfl rfl)
theorem dX6_leafRead_24 : decode cX6_leafRead 24 = .ok (.aload_n 0, 1) := dk_42 (dk_at dksX6_leafRead_1 0 rfl rfl)
theorem dX6_leafRead_25 : decode cX6_leafRead 25 = .ok (.dup, 1) := dk_89 (dk_at dksX6_leafRead_1 1 rfl rfl)
theorem dX6_leafRead_26 : decode cX6_leafRead 26 = .ok (.getfield 347, 3) := dk_180 1 91 (dk_at dksX6_leafRead_1 2 rfl rfl)
theorem dX6_leafRead_29 : decode cX6_leafRead 29 = .ok (.iconst 1, 1) := dk_4 (dk_at dksX6_leafRead_1 5 rfl rfl)
theorem dX6_leafRead_30 : decode cX6_leafRead 30 = .ok (.iadd, 1) := dk_96 (dk_at dksX6_leafRead_1 6 rfl rfl)
theorem dX6_leafRead_31 : decode cX6_leafRead 31 = .ok (.putfield 347, 3) := dk_181 1 91 (dk_at dksX6_leafRead_1 7 rfl rfl)
theorem dX6_leafRead_34 : decode cX6_leafRead 34 = .ok (.aload_n 0, 1) := dk_42 (dk_at dksX6_leafRead_1 10 rfl rfl)
theorem dX6_leafRead_35 : decode cX6_leafRead 35 = .ok (.iconst 0, 1) := dk_3 (dk_at dksX6_leafRead_1 11 rfl rfl)
theorem dX6_leafRead_36 : decode cX6_leafRead 36 = .ok (.invokevirtual 350, 3) := dk_182 1 94 (dk_at dksX6_leafRead_1 12 rfl rfl)
theorem dX6_leafRead_39 : decode cX6_leafRead 39 = .ok (.aload_n 0, 1) := dk_42 (dk_at dksX6_leafRead_1 15 rfl rfl)
theorem dX6_leafRead_40 : decode cX6_leafRead 40 = .ok (.iconst 1, 1) := dk_4 (dk_at dksX6_leafRead_1 16 rfl rfl)
theorem dX6_leafRead_41 : decode cX6_leafRead 41 = .ok (.putfield 354, 3) := dk_181 1 98 (dk_at dksX6_leafRead_1 17 rfl rfl)
theorem dX6_leafRead_44 : decode cX6_leafRead 44 = .ok (.aload_n 0, 1) := dk_42 (dk_at dksX6_leafRead_1 20 rfl rfl)
theorem dX6_leafRead_45 : decode cX6_leafRead 45 = .ok (.invokevirtual 173, 3) := dk_182 0 173 (dk_at dksX6_leafRead_1 21 rfl rfl)
theorem dX6_leafRead_48 : decode cX6_leafRead 48 = .ok (.iconst 1, 1) := dk_4 (dk_at dksX6_leafRead_2 0 rfl rfl)
theorem dX6_leafRead_49 : decode cX6_leafRead 49 = .ok (.ireturn, 1) := dk_172 (dk_at dksX6_leafRead_2 1 rfl rfl)
theorem dX6_leafRead_50 : decode cX6_leafRead 50 = .ok (.aload_n 0, 1) := dk_42 (dk_at dksX6_leafRead_2 2 rfl rfl)
theorem dX6_leafRead_51 : decode cX6_leafRead 51 = .ok (.bipush 18, 2) := dk_16 18 (dk_at dksX6_leafRead_2 3 rfl rfl)
theorem dX6_leafRead_53 : decode cX6_leafRead 53 = .ok (.invokevirtual 183, 3) := dk_182 0 183 (dk_at dksX6_leafRead_2 5 rfl rfl)
theorem dX6_leafRead_56 : decode cX6_leafRead 56 = .ok (.ifCond .eq 30, 3) := dk_153 0 30 (dk_at dksX6_leafRead_2 8 rfl rfl)
theorem dX6_leafRead_59 : decode cX6_leafRead 59 = .ok (.aload_n 0, 1) := dk_42 (dk_at dksX6_leafRead_2 11 rfl rfl)
theorem dX6_leafRead_60 : decode cX6_leafRead 60 = .ok (.getfield 354, 3) := dk_180 1 98 (dk_at dksX6_leafRead_2 12 rfl rfl)
theorem dX6_leafRead_63 : decode cX6_leafRead 63 = .ok (.ifCond .eq 23, 3) := dk_153 0 23 (dk_at dksX6_leafRead_2 15 rfl rfl)
theorem dX6_leafRead_66 : decode cX6_leafRead 66 = .ok (.aload_n 0, 1) := dk_42 (dk_at dksX6_leafRead_2 18 rfl rfl)
theorem dX6_leafRead_67 : decode cX6_leafRead 67 = .ok (.invokevirtual 357, 3) := dk_182 1 101 (dk_at dksX6_leafRead_2 19 rfl rfl)
theorem dX6_leafRead_70 : decode cX6_leafRead 70 = .ok (.ifCond .ne 5, 3) := dk_154 0 5 (dk_at dksX6_leafRead_3 0 rfl rfl)
theorem dX6_leafRead_73 : decode cX6_leafRead 73 = .ok (.iconst 0, 1) := dk_3 (dk_at dksX6_leafRead_3 3 rfl rfl)
theorem dX6_leafRead_74 : decode cX6_leafRead 74 = .ok (.ireturn, 1) := dk_172 (dk_at dksX6_leafRead_3 4 rfl rfl)
theorem dX6_leafRead_75 : decode cX6_leafRead 75 = .ok (.aload_n 0, 1) := dk_42 (dk_at dksX6_leafRead_3 5 rfl rfl)
theorem dX6_leafRead_76 : decode cX6_leafRead 76 = .ok (.iconst 2, 1) := dk_5 (dk_at dksX6_leafRead_3 6 rfl rfl)
theorem dX6_leafRead_77 : decode cX6_leafRead 77 = .ok (.invokevirtual 350, 3) := dk_182 1 94 (dk_at dksX6_leafRead_3 7 rfl rfl)
theorem dX6_leafRead_80 : decode cX6_leafRead 80 = .ok (.aload_n 0, 1) := dk_42 (dk_at dksX6_leafRead_3 10 rfl rfl)
theorem dX6_leafRead_81 : decode cX6_leafRead 81 = .ok (.invokevirtual 173, 3) := dk_182 0 173 (dk_at dksX6_leafRead_3 11 rfl rfl)
theorem dX6_leafRead_84 : decode cX6_leafRead 84 = .ok (.iconst 1, 1) := dk_4 (dk_at dksX6_leafRead_3 14 rfl rfl)
theorem dX6_leafRead_85 : decode cX6_leafRead 85 = .ok (.ireturn, 1) := dk_172 (dk_at dksX6_leafRead_3 15 rfl rfl)
theorem dX6_leafRead_86 : decode cX6_leafRead 86 = .ok (.aload_n 0, 1) := dk_42 (dk_at dksX6_leafRead_3 16 rfl rfl)
theorem dX6_leafRead_87 : decode cX6_leafRead 87 = .ok (.invokevirtual 360, 3) := dk_182 1 104 (dk_at dksX6_leafRead_3 17 rfl rfl)
theorem dX6_leafRead_90 : decode cX6_leafRead 90 = .ok (.istore_n 1, 1) := dk_60 (dk_at dksX6_leafRead_3 20 rfl rfl)
theorem dX6_leafRead_91 : decode cX6_leafRead 91 = .ok (.iload_n 1, 1) := dk_27 (dk_at dksX6_leafRead_3 21 rfl rfl)
theorem dX6_leafRead_92 : decode cX6_leafRead 92 = .ok (.ifCond .ge 17, 3) := dk_156 0 17 (dk_at dksX6_leafRead_4 0 rfl rfl)
theorem dX6_leafRead_95 : decode cX6_leafRead 95 = .ok (.aload_n 0, 1) := dk_42 (dk_at dksX6_leafRead_4 3 rfl rfl)
theorem dX6_leafRead_96 : decode cX6_leafRead 96 = .ok (.getfield 139, 3) := dk_180 0 139 (dk_at dksX6_leafRead_4 4 rfl rfl)
theorem dX6_leafRead_99 : decode cX6_leafRead 99 = .ok (.iconst 3, 1) := dk_6 (dk_at dksX6_leafRead_4 7 rfl rfl)
theorem dX6_leafRead_100 : decode cX6_leafRead 100 = .ok (.if_icmp .eq 9, 3) := dk_159 0 9 (dk_at dksX6_leafRead_4 8 rfl rfl)
theorem dX6_leafRead_103 : decode cX6_leafRead 103 = .ok (.aload_n 0, 1) := dk_42 (dk_at dksX6_leafRead_4 11 rfl rfl)
theorem dX6_leafRead_104 : decode cX6_leafRead 104 = .ok (.iconst 1, 1) := dk_4 (dk_at dksX6_leafRead_4 12 rfl rfl)
theorem dX6_leafRead_105 : decode cX6_leafRead 105 = .ok (.invokevirtual 163, 3) := dk_182 0 163 (dk_at dksX6_leafRead_4 13 rfl rfl)
theorem dX6_leafRead_108 : decode cX6_leafRead 108 = .ok (.ireturn, 1) := dk_172 (dk_at dksX6_leafRead_4 16 rfl rfl)
theorem dX6_leafRead_109 : decode cX6_leafRead 109 = .ok (.iload_n 1, 1) := dk_27 (dk_at dksX6_leafRead_4 17 rfl rfl)
theorem dX6_leafRead_110 : decode cX6_leafRead 110 = .ok (.ifCond .ge 19, 3) := dk_156 0 19 (dk_at dksX6_leafRead_4 18 rfl rfl)
theorem dX6_leafRead_113 : decode cX6_leafRead 113 = .ok (.aload_n 0, 1) := dk_42 (dk_at dksX6_leafRead_4 21 rfl rfl)
theorem dX6_leafRead_114 : decode cX6_leafRead 114 = .ok (.getfield 150, 3) := dk_180 0 150 (dk_at dksX6_leafRead_5 0 rfl rfl)
theorem dX6_leafRead_117 : decode cX6_leafRead 117 = .ok (.sipush 9999, 3) := dk_17 39 15 (dk_at dksX6_leafRead_5 3 rfl rfl)
theorem dX6_leafRead_120 : decode cX6_leafRead 120 = .ok (.if_icmp .le 9, 3) := dk_164 0 9 (dk_at dksX6_leafRead_5 6 rfl rfl)
theorem dX6_leafRead_123 : decode cX6_leafRead 123 = .ok (.aload_n 0, 1) := dk_42 (dk_at dksX6_leafRead_5 9 rfl rfl)
theorem dX6_leafRead_124 : decode cX6_leafRead 124 = .ok (.iconst 2, 1) := dk_5 (dk_at dksX6_leafRead_5 10 rfl rfl)
theorem dX6_leafRead_125 : decode cX6_leafRead 125 = .ok (.invokevirtual 163, 3) := dk_182 0 163 (dk_at dksX6_leafRead_5 11 rfl rfl)
theorem dX6_leafRead_128 : decode cX6_leafRead 128 = .ok (.ireturn, 1) := dk_172 (dk_at dksX6_leafRead_5 14 rfl rfl)
theorem dX6_leafRead_129 : decode cX6_leafRead 129 = .ok (.aload_n 0, 1) := dk_42 (dk_at dksX6_leafRead_5 15 rfl rfl)
theorem dX6_leafRead_130 : decode cX6_leafRead 130 = .ok (.invokevirtual 357, 3) := dk_182 1 101 (dk_at dksX6_leafRead_5 16 rfl rfl)
theorem dX6_leafRead_133 : decode cX6_leafRead 133 = .ok (.ifCond .ne 5, 3) := dk_154 0 5 (dk_at dksX6_leafRead_5 19 rfl rfl)
theorem dX6_leafRead_136 : decode cX6_leafRead 136 = .ok (.iconst 0, 1) := dk_3 (dk_at dksX6_leafRead_5 22 rfl rfl)
theorem dX6_leafRead_137 : decode cX6_leafRead 137 = .ok (.ireturn, 1) := dk_172 (dk_at dksX6_leafRead_5 23 rfl rfl)
theorem dX6_leafRead_138 : decode cX6_leafRead 138 = .ok (.aload_n 0, 1) := dk_42 (dk_at dksX6_leafRead_6 0 rfl rfl)
theorem dX6_leafRead_139 : decode cX6_leafRead 139 = .ok (.iload_n 1, 1) := dk_27 (dk_at dksX6_leafRead_6 1 rfl rfl)
theorem dX6_leafRead_140 : decode cX6_leafRead 140 = .ok (.ifCond .lt 7, 3) := dk_155 0 7 (dk_at dksX6_leafRead_6 2 rfl rfl)
theorem dX6_leafRead_143 : decode cX6_leafRead 143 = .ok (.iconst 1, 1) := dk_4 (dk_at dksX6_leafRead_6 5 rfl rfl)
theorem dX6_leafRead_144 : decode cX6_leafRead 144 = .ok (.goto 4, 3) := dk_167 0 4 (dk_at dksX6_leafRead_6 6 rfl rfl)
theorem dX6_leafRead_147 : decode cX6_leafRead 147 = .ok (.iconst 0, 1) := dk_3 (dk_at dksX6_leafRead_6 9 rfl rfl)
theorem dX6_leafRead_148 : decode cX6_leafRead 148 = .ok (.iload_n 1, 1) := dk_27 (dk_at dksX6_leafRead_6 10 rfl rfl)
theorem dX6_leafRead_149 : decode cX6_leafRead 149 = .ok (.ifCond .lt 7, 3) := dk_155 0 7 (dk_at dksX6_leafRead_6 11 rfl rfl)
theorem dX6_leafRead_152 : decode cX6_leafRead 152 = .ok (.iload_n 1, 1) := dk_27 (dk_at dksX6_leafRead_6 14 rfl rfl)
theorem dX6_leafRead_153 : decode cX6_leafRead 153 = .ok (.goto 7, 3) := dk_167 0 7 (dk_at dksX6_leafRead_6 15 rfl rfl)
theorem dX6_leafRead_156 : decode cX6_leafRead 156 = .ok (.aload_n 0, 1) := dk_42 (dk_at dksX6_leafRead_6 18 rfl rfl)
theorem dX6_leafRead_157 : decode cX6_leafRead 157 = .ok (.getfield 150, 3) := dk_180 0 150 (dk_at dksX6_leafRead_6 19 rfl rfl)
theorem dX6_leafRead_160 : decode cX6_leafRead 160 = .ok (.iconst 0, 1) := dk_3 (dk_at dksX6_leafRead_6 22 rfl rfl)
theorem dX6_leafRead_161 : decode cX6_leafRead 161 = .ok (.invokevirtual 343, 3) := dk_182 1 87 (dk_at dksX6_leafRead_7 0 rfl rfl)
theorem dX6_leafRead_164 : decode cX6_leafRead 164 = .ok (.aload_n 0, 1) := dk_42 (dk_at dksX6_leafRead_7 3 rfl rfl)
theorem dX6_leafRead_165 : decode cX6_leafRead 165 = .ok (.iconst 0, 1) := dk_3 (dk_at dksX6_leafRead_7 4 rfl rfl)
theorem dX6_leafRead_166 : decode cX6_leafRead 166 = .ok (.putfield 363, 3) := dk_181 1 107 (dk_at dksX6_leafRead_7 5 rfl rfl)
theorem dX6_leafRead_169 : decode cX6_leafRead 169 = .ok (.aload_n 0, 1) := dk_42 (dk_at dksX6_leafRead_7 8 rfl rfl)
theorem dX6_leafRead_170 : decode cX6_leafRead 170 = .ok (.invokevirtual 173, 3) := dk_182 0 173 (dk_at dksX6_leafRead_7 9 rfl rfl)
theorem dX6_leafRead_173 : decode cX6_leafRead 173 = .ok (.iconst 1, 1) := dk_4 (dk_at dksX6_leafRead_7 12 rfl rfl)
theorem dX6_leafRead_174 : decode cX6_leafRead 174 = .ok (.ireturn, 1) := dk_172 (dk_at dksX6_leafRead_7 13 rfl rfl)
abbrev cX6_waitsFor : ByteArray := prog_20_method_47_code
def yX6_waitsFor : MethodName := ⟨RX6, "waitsFor", "(I)V"⟩
def dkwX6_waitsFor_0 : List UInt8 := [42, 180, 0, 72, 42, 180, 1, 77, 27, 79, 42, 89, 180, 1, 77, 4, 96, 181, 1, 77, 177]
abbrev dktX6_waitsFor_0 : List UInt8 := dkwX6_waitsFor_0 ++ []
theorem dksX6_waitsFor_0 : cX6_waitsFor.data.toList.drop 0 = dktX6_waitsFor_0 := by decide +kernel
theorem dX6_waitsFor_0 : decode cX6_waitsFor 0 = .ok (.aload_n 0, 1) := dk_42 (dk_at dksX6_waitsFor_0 0 rfl rfl)
theorem dX6_waitsFor_1 : decode cX6_waitsFor 1 = .ok (.getfield 72, 3) := dk_180 0 72 (dk_at dksX6_waitsFor_0 1 rfl rfl)
theorem dX6_waitsFor_4 : decode cX6_waitsFor 4 = .ok (.aload_n 0, 1) := dk_42 (dk_at dksX6_waitsFor_0 4 rfl rfl)
theorem dX6_waitsFor_5 : decode cX6_waitsFor 5 = .ok (.getfield 333, 3) := dk_180 1 77 (dk_at dksX6_waitsFor_0 5 rfl rfl)
theorem dX6_waitsFor_8 : decode cX6_waitsFor 8 = .ok (.iload_n 1, 1) := dk_27 (dk_at dksX6_waitsFor_0 8 rfl rfl)
theorem dX6_waitsFor_9 : decode cX6_waitsFor 9 = .ok (.iastore, 1) := dk_79 (dk_at dksX6_waitsFor_0 9 rfl rfl)
theorem dX6_waitsFor_10 : decode cX6_waitsFor 10 = .ok (.aload_n 0, 1) := dk_42 (dk_at dksX6_waitsFor_0 10 rfl rfl)
theorem dX6_waitsFor_11 : decode cX6_waitsFor 11 = .ok (.dup, 1) := dk_89 (dk_at dksX6_waitsFor_0 11 rfl rfl)
theorem dX6_waitsFor_12 : decode cX6_waitsFor 12 = .ok (.getfield 333, 3) := dk_180 1 77 (dk_at dksX6_waitsFor_0 12 rfl rfl)
theorem dX6_waitsFor_15 : decode cX6_waitsFor 15 = .ok (.iconst 1, 1) := dk_4 (dk_at dksX6_waitsFor_0 15 rfl rfl)
theorem dX6_waitsFor_16 : decode cX6_waitsFor 16 = .ok (.iadd, 1) := dk_96 (dk_at dksX6_waitsFor_0 16 rfl rfl)
theorem dX6_waitsFor_17 : decode cX6_waitsFor 17 = .ok (.putfield 333, 3) := dk_181 1 77 (dk_at dksX6_waitsFor_0 17 rfl rfl)
theorem dX6_waitsFor_20 : decode cX6_waitsFor 20 = .ok (.return_, 1) := dk_177 (dk_at dksX6_waitsFor_0 20 rfl rfl)
abbrev cX6_isCounted : ByteArray := prog_20_method_46_code
def yX6_isCounted : MethodName := ⟨RX6, "isCounted", "()Z"⟩
def dkwX6_isCounted_1 : List UInt8 := [181, 0, 204, 4, 172]
abbrev dktX6_isCounted_1 : List UInt8 := dkwX6_isCounted_1 ++ []
def dkwX6_isCounted_0 : List UInt8 := [42, 180, 0, 204, 16, 64, 160, 0, 9, 42, 5, 182, 0, 163, 172, 42, 89, 180, 0, 204, 4, 96]
abbrev dktX6_isCounted_0 : List UInt8 := dkwX6_isCounted_0 ++ dktX6_isCounted_1
theorem dksX6_isCounted_0 : cX6_isCounted.data.toList.drop 0 = dktX6_isCounted_0 := by decide +kernel
theorem dksX6_isCounted_1 : cX6_isCounted.data.toList.drop 22 = dktX6_isCounted_1 := dk_seg dksX6_isCounted_0 22 rfl rfl
theorem dX6_isCounted_0 : decode cX6_isCounted 0 = .ok (.aload_n 0, 1) := dk_42 (dk_at dksX6_isCounted_0 0 rfl rfl)
theorem dX6_isCounted_1 : decode cX6_isCounted 1 = .ok (.getfield 204, 3) := dk_180 0 204 (dk_at dksX6_isCounted_0 1 rfl rfl)
theorem dX6_isCounted_4 : decode cX6_isCounted 4 = .ok (.bipush 64, 2) := dk_16 64 (dk_at dksX6_isCounted_0 4 rfl rfl)
theorem dX6_isCounted_6 : decode cX6_isCounted 6 = .ok (.if_icmp .ne 9, 3) := dk_160 0 9 (dk_at dksX6_isCounted_0 6 rfl rfl)
theorem dX6_isCounted_9 : decode cX6_isCounted 9 = .ok (.aload_n 0, 1) := dk_42 (dk_at dksX6_isCounted_0 9 rfl rfl)
theorem dX6_isCounted_10 : decode cX6_isCounted 10 = .ok (.iconst 2, 1) := dk_5 (dk_at dksX6_isCounted_0 10 rfl rfl)
theorem dX6_isCounted_11 : decode cX6_isCounted 11 = .ok (.invokevirtual 163, 3) := dk_182 0 163 (dk_at dksX6_isCounted_0 11 rfl rfl)
theorem dX6_isCounted_14 : decode cX6_isCounted 14 = .ok (.ireturn, 1) := dk_172 (dk_at dksX6_isCounted_0 14 rfl rfl)
theorem dX6_isCounted_15 : decode cX6_isCounted 15 = .ok (.aload_n 0, 1) := dk_42 (dk_at dksX6_isCounted_0 15 rfl rfl)
theorem dX6_isCounted_16 : decode cX6_isCounted 16 = .ok (.dup, 1) := dk_89 (dk_at dksX6_isCounted_0 16 rfl rfl)
theorem dX6_isCounted_17 : decode cX6_isCounted 17 = .ok (.getfield 204, 3) := dk_180 0 204 (dk_at dksX6_isCounted_0 17 rfl rfl)
theorem dX6_isCounted_20 : decode cX6_isCounted 20 = .ok (.iconst 1, 1) := dk_4 (dk_at dksX6_isCounted_0 20 rfl rfl)
theorem dX6_isCounted_21 : decode cX6_isCounted 21 = .ok (.iadd, 1) := dk_96 (dk_at dksX6_isCounted_0 21 rfl rfl)
theorem dX6_isCounted_22 : decode cX6_isCounted 22 = .ok (.putfield 204, 3) := dk_181 0 204 (dk_at dksX6_isCounted_1 0 rfl rfl)
theorem dX6_isCounted_25 : decode cX6_isCounted 25 = .ok (.iconst 1, 1) := dk_4 (dk_at dksX6_isCounted_1 3 rfl rfl)
theorem dX6_isCounted_26 : decode cX6_isCounted 26 = .ok (.ireturn, 1) := dk_172 (dk_at dksX6_isCounted_1 4 rfl rfl)
abbrev cX6_nameMet : ByteArray := prog_20_method_48_code
def yX6_nameMet : MethodName := ⟨RX6, "nameMet", "()I"⟩
def dkwX6_nameMet_2 : List UInt8 := [3, 172, 4, 172, 5, 172, 6, 172, 7, 172, 8, 172, 2, 172]
abbrev dktX6_nameMet_2 : List UInt8 := dkwX6_nameMet_2 ++ []
def dkwX6_nameMet_1 : List UInt8 := [170, 0, 0, 0, 0, 94, 0, 0, 0, 6, 0, 0, 0, 22, 0, 0, 0, 86, 0, 0, 0, 88, 0, 0, 0, 94, 0, 0, 0, 94, 0, 0, 0, 94, 0, 0, 0, 94, 0, 0, 0, 94, 0, 0, 0, 94, 0, 0, 0, 94, 0, 0, 0, 94, 0, 0, 0, 94, 0, 0, 0, 94, 0, 0, 0, 94, 0, 0, 0, 82, 0, 0, 0, 84, 0, 0, 0, 90, 0, 0, 0, 92]
abbrev dktX6_nameMet_1 : List UInt8 := dkwX6_nameMet_1 ++ dktX6_nameMet_2
def dkwX6_nameMet_0 : List UInt8 := [42, 180, 0, 139, 4, 159, 0, 5, 2, 172, 42, 180, 0, 150]
abbrev dktX6_nameMet_0 : List UInt8 := dkwX6_nameMet_0 ++ dktX6_nameMet_1
theorem dksX6_nameMet_0 : cX6_nameMet.data.toList.drop 0 = dktX6_nameMet_0 := by decide +kernel
theorem dksX6_nameMet_1 : cX6_nameMet.data.toList.drop 14 = dktX6_nameMet_1 := dk_seg dksX6_nameMet_0 14 rfl rfl
theorem dksX6_nameMet_2 : cX6_nameMet.data.toList.drop 96 = dktX6_nameMet_2 := dk_seg dksX6_nameMet_1 82 rfl rfl
theorem dX6_nameMet_0 : decode cX6_nameMet 0 = .ok (.aload_n 0, 1) := dk_42 (dk_at dksX6_nameMet_0 0 rfl rfl)
theorem dX6_nameMet_1 : decode cX6_nameMet 1 = .ok (.getfield 139, 3) := dk_180 0 139 (dk_at dksX6_nameMet_0 1 rfl rfl)
theorem dX6_nameMet_4 : decode cX6_nameMet 4 = .ok (.iconst 1, 1) := dk_4 (dk_at dksX6_nameMet_0 4 rfl rfl)
theorem dX6_nameMet_5 : decode cX6_nameMet 5 = .ok (.if_icmp .eq 5, 3) := dk_159 0 5 (dk_at dksX6_nameMet_0 5 rfl rfl)
theorem dX6_nameMet_8 : decode cX6_nameMet 8 = .ok (.iconst (-1), 1) := dk_2 (dk_at dksX6_nameMet_0 8 rfl rfl)
theorem dX6_nameMet_9 : decode cX6_nameMet 9 = .ok (.ireturn, 1) := dk_172 (dk_at dksX6_nameMet_0 9 rfl rfl)
theorem dX6_nameMet_10 : decode cX6_nameMet 10 = .ok (.aload_n 0, 1) := dk_42 (dk_at dksX6_nameMet_0 10 rfl rfl)
theorem dX6_nameMet_11 : decode cX6_nameMet 11 = .ok (.getfield 150, 3) := dk_180 0 150 (dk_at dksX6_nameMet_0 11 rfl rfl)
theorem dX6_nameMet_14 : decode cX6_nameMet 14 = .ok (.tableswitch 94 6 22 #[86, 88, 94, 94, 94, 94, 94, 94, 94, 94, 94, 94, 94, 82, 84, 90, 92], 82) := by decide +kernel
theorem dX6_nameMet_96 : decode cX6_nameMet 96 = .ok (.iconst 0, 1) := dk_3 (dk_at dksX6_nameMet_2 0 rfl rfl)
theorem dX6_nameMet_97 : decode cX6_nameMet 97 = .ok (.ireturn, 1) := dk_172 (dk_at dksX6_nameMet_2 1 rfl rfl)
theorem dX6_nameMet_98 : decode cX6_nameMet 98 = .ok (.iconst 1, 1) := dk_4 (dk_at dksX6_nameMet_2 2 rfl rfl)
theorem dX6_nameMet_99 : decode cX6_nameMet 99 = .ok (.ireturn, 1) := dk_172 (dk_at dksX6_nameMet_2 3 rfl rfl)
theorem dX6_nameMet_100 : decode cX6_nameMet 100 = .ok (.iconst 2, 1) := dk_5 (dk_at dksX6_nameMet_2 4 rfl rfl)
theorem dX6_nameMet_101 : decode cX6_nameMet 101 = .ok (.ireturn, 1) := dk_172 (dk_at dksX6_nameMet_2 5 rfl rfl)
theorem dX6_nameMet_102 : decode cX6_nameMet 102 = .ok (.iconst 3, 1) := dk_6 (dk_at dksX6_nameMet_2 6 rfl rfl)
theorem dX6_nameMet_103 : decode cX6_nameMet 103 = .ok (.ireturn, 1) := dk_172 (dk_at dksX6_nameMet_2 7 rfl rfl)
theorem dX6_nameMet_104 : decode cX6_nameMet 104 = .ok (.iconst 4, 1) := dk_7 (dk_at dksX6_nameMet_2 8 rfl rfl)
theorem dX6_nameMet_105 : decode cX6_nameMet 105 = .ok (.ireturn, 1) := dk_172 (dk_at dksX6_nameMet_2 9 rfl rfl)
theorem dX6_nameMet_106 : decode cX6_nameMet 106 = .ok (.iconst 5, 1) := dk_8 (dk_at dksX6_nameMet_2 10 rfl rfl)
theorem dX6_nameMet_107 : decode cX6_nameMet 107 = .ok (.ireturn, 1) := dk_172 (dk_at dksX6_nameMet_2 11 rfl rfl)
theorem dX6_nameMet_108 : decode cX6_nameMet 108 = .ok (.iconst (-1), 1) := dk_2 (dk_at dksX6_nameMet_2 12 rfl rfl)
theorem dX6_nameMet_109 : decode cX6_nameMet 109 = .ok (.ireturn, 1) := dk_172 (dk_at dksX6_nameMet_2 13 rfl rfl)
abbrev cX6_grown : ByteArray := prog_20_method_43_code
def yX6_grown : MethodName := ⟨RX6, "grown", "(III)V"⟩
def dkwX6_grown_3 : List UInt8 := [177]
abbrev dktX6_grown_3 : List UInt8 := dkwX6_grown_3 ++ []
def dkwX6_grown_2 : List UInt8 := [180, 0, 201, 79, 42, 89, 180, 1, 74, 4, 96, 181, 1, 74, 42, 89, 180, 0, 201, 4, 96, 181, 0, 201]
abbrev dktX6_grown_2 : List UInt8 := dkwX6_grown_2 ++ dktX6_grown_3
def dkwX6_grown_1 : List UInt8 := [28, 79, 42, 180, 0, 69, 16, 64, 42, 180, 0, 201, 96, 29, 79, 42, 180, 0, 75, 42, 180, 1, 74, 42]
abbrev dktX6_grown_1 : List UInt8 := dkwX6_grown_1 ++ dktX6_grown_2
def dkwX6_grown_0 : List UInt8 := [42, 180, 0, 63, 16, 64, 42, 180, 0, 201, 96, 27, 79, 42, 180, 0, 66, 16, 64, 42, 180, 0, 201, 96]
abbrev dktX6_grown_0 : List UInt8 := dkwX6_grown_0 ++ dktX6_grown_1
theorem dksX6_grown_0 : cX6_grown.data.toList.drop 0 = dktX6_grown_0 := by decide +kernel
theorem dksX6_grown_1 : cX6_grown.data.toList.drop 24 = dktX6_grown_1 := dk_seg dksX6_grown_0 24 rfl rfl
theorem dksX6_grown_2 : cX6_grown.data.toList.drop 48 = dktX6_grown_2 := dk_seg dksX6_grown_1 24 rfl rfl
theorem dksX6_grown_3 : cX6_grown.data.toList.drop 72 = dktX6_grown_3 := dk_seg dksX6_grown_2 24 rfl rfl
theorem dX6_grown_0 : decode cX6_grown 0 = .ok (.aload_n 0, 1) := dk_42 (dk_at dksX6_grown_0 0 rfl rfl)
theorem dX6_grown_1 : decode cX6_grown 1 = .ok (.getfield 63, 3) := dk_180 0 63 (dk_at dksX6_grown_0 1 rfl rfl)
theorem dX6_grown_4 : decode cX6_grown 4 = .ok (.bipush 64, 2) := dk_16 64 (dk_at dksX6_grown_0 4 rfl rfl)
theorem dX6_grown_6 : decode cX6_grown 6 = .ok (.aload_n 0, 1) := dk_42 (dk_at dksX6_grown_0 6 rfl rfl)
theorem dX6_grown_7 : decode cX6_grown 7 = .ok (.getfield 201, 3) := dk_180 0 201 (dk_at dksX6_grown_0 7 rfl rfl)
theorem dX6_grown_10 : decode cX6_grown 10 = .ok (.iadd, 1) := dk_96 (dk_at dksX6_grown_0 10 rfl rfl)
theorem dX6_grown_11 : decode cX6_grown 11 = .ok (.iload_n 1, 1) := dk_27 (dk_at dksX6_grown_0 11 rfl rfl)
theorem dX6_grown_12 : decode cX6_grown 12 = .ok (.iastore, 1) := dk_79 (dk_at dksX6_grown_0 12 rfl rfl)
theorem dX6_grown_13 : decode cX6_grown 13 = .ok (.aload_n 0, 1) := dk_42 (dk_at dksX6_grown_0 13 rfl rfl)
theorem dX6_grown_14 : decode cX6_grown 14 = .ok (.getfield 66, 3) := dk_180 0 66 (dk_at dksX6_grown_0 14 rfl rfl)
theorem dX6_grown_17 : decode cX6_grown 17 = .ok (.bipush 64, 2) := dk_16 64 (dk_at dksX6_grown_0 17 rfl rfl)
theorem dX6_grown_19 : decode cX6_grown 19 = .ok (.aload_n 0, 1) := dk_42 (dk_at dksX6_grown_0 19 rfl rfl)
theorem dX6_grown_20 : decode cX6_grown 20 = .ok (.getfield 201, 3) := dk_180 0 201 (dk_at dksX6_grown_0 20 rfl rfl)
theorem dX6_grown_23 : decode cX6_grown 23 = .ok (.iadd, 1) := dk_96 (dk_at dksX6_grown_0 23 rfl rfl)
theorem dX6_grown_24 : decode cX6_grown 24 = .ok (.iload_n 2, 1) := dk_28 (dk_at dksX6_grown_1 0 rfl rfl)
theorem dX6_grown_25 : decode cX6_grown 25 = .ok (.iastore, 1) := dk_79 (dk_at dksX6_grown_1 1 rfl rfl)
theorem dX6_grown_26 : decode cX6_grown 26 = .ok (.aload_n 0, 1) := dk_42 (dk_at dksX6_grown_1 2 rfl rfl)
theorem dX6_grown_27 : decode cX6_grown 27 = .ok (.getfield 69, 3) := dk_180 0 69 (dk_at dksX6_grown_1 3 rfl rfl)
theorem dX6_grown_30 : decode cX6_grown 30 = .ok (.bipush 64, 2) := dk_16 64 (dk_at dksX6_grown_1 6 rfl rfl)
theorem dX6_grown_32 : decode cX6_grown 32 = .ok (.aload_n 0, 1) := dk_42 (dk_at dksX6_grown_1 8 rfl rfl)
theorem dX6_grown_33 : decode cX6_grown 33 = .ok (.getfield 201, 3) := dk_180 0 201 (dk_at dksX6_grown_1 9 rfl rfl)
theorem dX6_grown_36 : decode cX6_grown 36 = .ok (.iadd, 1) := dk_96 (dk_at dksX6_grown_1 12 rfl rfl)
theorem dX6_grown_37 : decode cX6_grown 37 = .ok (.iload_n 3, 1) := dk_29 (dk_at dksX6_grown_1 13 rfl rfl)
theorem dX6_grown_38 : decode cX6_grown 38 = .ok (.iastore, 1) := dk_79 (dk_at dksX6_grown_1 14 rfl rfl)
theorem dX6_grown_39 : decode cX6_grown 39 = .ok (.aload_n 0, 1) := dk_42 (dk_at dksX6_grown_1 15 rfl rfl)
theorem dX6_grown_40 : decode cX6_grown 40 = .ok (.getfield 75, 3) := dk_180 0 75 (dk_at dksX6_grown_1 16 rfl rfl)
theorem dX6_grown_43 : decode cX6_grown 43 = .ok (.aload_n 0, 1) := dk_42 (dk_at dksX6_grown_1 19 rfl rfl)
theorem dX6_grown_44 : decode cX6_grown 44 = .ok (.getfield 330, 3) := dk_180 1 74 (dk_at dksX6_grown_1 20 rfl rfl)
theorem dX6_grown_47 : decode cX6_grown 47 = .ok (.aload_n 0, 1) := dk_42 (dk_at dksX6_grown_1 23 rfl rfl)
theorem dX6_grown_48 : decode cX6_grown 48 = .ok (.getfield 201, 3) := dk_180 0 201 (dk_at dksX6_grown_2 0 rfl rfl)
theorem dX6_grown_51 : decode cX6_grown 51 = .ok (.iastore, 1) := dk_79 (dk_at dksX6_grown_2 3 rfl rfl)
theorem dX6_grown_52 : decode cX6_grown 52 = .ok (.aload_n 0, 1) := dk_42 (dk_at dksX6_grown_2 4 rfl rfl)
theorem dX6_grown_53 : decode cX6_grown 53 = .ok (.dup, 1) := dk_89 (dk_at dksX6_grown_2 5 rfl rfl)
theorem dX6_grown_54 : decode cX6_grown 54 = .ok (.getfield 330, 3) := dk_180 1 74 (dk_at dksX6_grown_2 6 rfl rfl)
theorem dX6_grown_57 : decode cX6_grown 57 = .ok (.iconst 1, 1) := dk_4 (dk_at dksX6_grown_2 9 rfl rfl)
theorem dX6_grown_58 : decode cX6_grown 58 = .ok (.iadd, 1) := dk_96 (dk_at dksX6_grown_2 10 rfl rfl)
theorem dX6_grown_59 : decode cX6_grown 59 = .ok (.putfield 330, 3) := dk_181 1 74 (dk_at dksX6_grown_2 11 rfl rfl)
theorem dX6_grown_62 : decode cX6_grown 62 = .ok (.aload_n 0, 1) := dk_42 (dk_at dksX6_grown_2 14 rfl rfl)
theorem dX6_grown_63 : decode cX6_grown 63 = .ok (.dup, 1) := dk_89 (dk_at dksX6_grown_2 15 rfl rfl)
theorem dX6_grown_64 : decode cX6_grown 64 = .ok (.getfield 201, 3) := dk_180 0 201 (dk_at dksX6_grown_2 16 rfl rfl)
theorem dX6_grown_67 : decode cX6_grown 67 = .ok (.iconst 1, 1) := dk_4 (dk_at dksX6_grown_2 19 rfl rfl)
theorem dX6_grown_68 : decode cX6_grown 68 = .ok (.iadd, 1) := dk_96 (dk_at dksX6_grown_2 20 rfl rfl)
theorem dX6_grown_69 : decode cX6_grown 69 = .ok (.putfield 201, 3) := dk_181 0 201 (dk_at dksX6_grown_2 21 rfl rfl)
theorem dX6_grown_72 : decode cX6_grown 72 = .ok (.return_, 1) := dk_177 (dk_at dksX6_grown_3 0 rfl rfl)
abbrev cX6_signs : ByteArray := prog_20_method_50_code
def yX6_signs : MethodName := ⟨RX6, "signs", "()Z"⟩
def dkwX6_signs_11 : List UInt8 := [162, 0, 7, 4, 167, 0, 4, 3, 181, 1, 98, 42, 182, 0, 173, 4, 172]
abbrev dktX6_signs_11 : List UInt8 := dkwX6_signs_11 ++ []
def dkwX6_signs_10 : List UInt8 := [182, 1, 101, 154, 0, 5, 3, 172, 42, 27, 182, 1, 94, 42, 4, 181, 1, 107, 42, 27, 184, 1, 80, 6]
abbrev dktX6_signs_10 : List UInt8 := dkwX6_signs_10 ++ dktX6_signs_11
def dkwX6_signs_9 : List UInt8 := [180, 0, 72, 42, 180, 1, 77, 4, 100, 46, 184, 1, 80, 7, 160, 0, 9, 42, 4, 182, 0, 163, 172, 42]
abbrev dktX6_signs_9 : List UInt8 := dkwX6_signs_9 ++ dktX6_signs_10
def dkwX6_signs_8 : List UInt8 := [184, 1, 80, 182, 1, 110, 27, 184, 1, 80, 7, 160, 0, 34, 42, 180, 1, 77, 158, 0, 27, 42]
abbrev dktX6_signs_8 : List UInt8 := dkwX6_signs_8 ++ dktX6_signs_9
def dkwX6_signs_7 : List UInt8 := [27, 154, 0, 9, 42, 4, 182, 0, 163, 172, 42, 27, 184, 1, 80, 7, 160, 0, 7, 8, 167, 0, 7, 27]
abbrev dktX6_signs_7 : List UInt8 := dkwX6_signs_7 ++ dktX6_signs_8
def dkwX6_signs_6 : List UInt8 := [153, 0, 8, 16, 14, 167, 0, 18, 42, 16, 37, 182, 0, 176, 153, 0, 8, 16, 15, 167, 0, 4, 3, 60]
abbrev dktX6_signs_6 : List UInt8 := dkwX6_signs_6 ++ dktX6_signs_7
def dkwX6_signs_5 : List UInt8 := [167, 0, 46, 42, 16, 42, 182, 0, 176, 153, 0, 8, 16, 13, 167, 0, 32, 42, 16, 47, 182, 0, 176]
abbrev dktX6_signs_5 : List UInt8 := dkwX6_signs_5 ++ dktX6_signs_6
def dkwX6_signs_4 : List UInt8 := [182, 0, 176, 153, 0, 8, 16, 11, 167, 0, 60, 42, 16, 45, 182, 0, 176, 153, 0, 8, 16, 12]
abbrev dktX6_signs_4 : List UInt8 := dkwX6_signs_4 ++ dktX6_signs_5
def dkwX6_signs_3 : List UInt8 := [167, 0, 91, 42, 180, 0, 139, 8, 160, 0, 12, 8, 42, 180, 0, 150, 96, 167, 0, 74, 42, 16, 43]
abbrev dktX6_signs_3 : List UInt8 := dkwX6_signs_3 ++ dktX6_signs_4
def dkwX6_signs_2 : List UInt8 := [42, 16, 16, 182, 0, 183, 153, 0, 7, 6, 167, 0, 104, 42, 16, 17, 182, 0, 183, 153, 0, 7, 7]
abbrev dktX6_signs_2 : List UInt8 := dkwX6_signs_2 ++ dktX6_signs_3
def dkwX6_signs_1 : List UInt8 := [180, 1, 77, 4, 100, 181, 1, 77, 42, 89, 180, 1, 91, 4, 100, 181, 1, 91, 42, 182, 0, 173, 4, 172]
abbrev dktX6_signs_1 : List UInt8 := dkwX6_signs_1 ++ dktX6_signs_2
def dkwX6_signs_0 : List UInt8 := [42, 16, 41, 182, 0, 176, 153, 0, 41, 42, 180, 1, 91, 158, 0, 34, 42, 4, 182, 1, 110, 42, 89]
abbrev dktX6_signs_0 : List UInt8 := dkwX6_signs_0 ++ dktX6_signs_1
theorem dksX6_signs_0 : cX6_signs.data.toList.drop 0 = dktX6_signs_0 := by decide +kernel
theorem dksX6_signs_1 : cX6_signs.data.toList.drop 23 = dktX6_signs_1 := dk_seg dksX6_signs_0 23 rfl rfl
theorem dksX6_signs_2 : cX6_signs.data.toList.drop 47 = dktX6_signs_2 := dk_seg dksX6_signs_1 24 rfl rfl
theorem dksX6_signs_3 : cX6_signs.data.toList.drop 70 = dktX6_signs_3 := dk_seg dksX6_signs_2 23 rfl rfl
theorem dksX6_signs_4 : cX6_signs.data.toList.drop 93 = dktX6_signs_4 := dk_seg dksX6_signs_3 23 rfl rfl
theorem dksX6_signs_5 : cX6_signs.data.toList.drop 115 = dktX6_signs_5 := dk_seg dksX6_signs_4 22 rfl rfl
theorem dksX6_signs_6 : cX6_signs.data.toList.drop 138 = dktX6_signs_6 := dk_seg dksX6_signs_5 23 rfl rfl
theorem dksX6_signs_7 : cX6_signs.data.toList.drop 162 = dktX6_signs_7 := dk_seg dksX6_signs_6 24 rfl rfl
theorem dksX6_signs_8 : cX6_signs.data.toList.drop 186 = dktX6_signs_8 := dk_seg dksX6_signs_7 24 rfl rfl
theorem dksX6_signs_9 : cX6_signs.data.toList.drop 208 = dktX6_signs_9 := dk_seg dksX6_signs_8 22 rfl rfl
theorem dksX6_signs_10 : cX6_signs.data.toList.drop 232 = dktX6_signs_10 := dk_seg dksX6_signs_9 24 rfl rfl
theorem dksX6_signs_11 : cX6_signs.data.toList.drop 256 = dktX6_signs_11 := dk_seg dksX6_signs_10 24 rfl rfl
theorem dX6_signs_0 : decode cX6_signs 0 = .ok (.aload_n 0, 1) := dk_42 (dk_at dksX6_signs_0 0 rfl rfl)
theorem dX6_signs_1 : decode cX6_signs 1 = .ok (.bipush 41, 2) := dk_16 41 (dk_at dksX6_signs_0 1 rfl rfl)
theorem dX6_signs_3 : decode cX6_signs 3 = .ok (.invokevirtual 176, 3) := dk_182 0 176 (dk_at dksX6_signs_0 3 rfl rfl)
theorem dX6_signs_6 : decode cX6_signs 6 = .ok (.ifCond .eq 41, 3) := dk_153 0 41 (dk_at dksX6_signs_0 6 rfl rfl)
theorem dX6_signs_9 : decode cX6_signs 9 = .ok (.aload_n 0, 1) := dk_42 (dk_at dksX6_signs_0 9 rfl rfl)
theorem dX6_signs_10 : decode cX6_signs 10 = .ok (.getfield 347, 3) := dk_180 1 91 (dk_at dksX6_signs_0 10 rfl rfl)
theorem dX6_signs_13 : decode cX6_signs 13 = .ok (.ifCond .le 34, 3) := dk_158 0 34 (dk_at dksX6_signs_0 13 rfl rfl)
theorem dX6_signs_16 : decode cX6_signs 16 = .ok (.aload_n 0, 1) := dk_42 (dk_at dksX6_signs_0 16 rfl rfl)
theorem dX6_signs_17 : decode cX6_signs 17 = .ok (.iconst 1, 1) := dk_4 (dk_at dksX6_signs_0 17 rfl rfl)
theorem dX6_signs_18 : decode cX6_signs 18 = .ok (.invokevirtual 366, 3) := dk_182 1 110 (dk_at dksX6_signs_0 18 rfl rfl)
theorem dX6_signs_21 : decode cX6_signs 21 = .ok (.aload_n 0, 1) := dk_42 (dk_at dksX6_signs_0 21 rfl rfl)
theorem dX6_signs_22 : decode cX6_signs 22 = .ok (.dup, 1) := dk_89 (dk_at dksX6_signs_0 22 rfl rfl)
theorem dX6_signs_23 : decode cX6_signs 23 = .ok (.getfield 333, 3) := dk_180 1 77 (dk_at dksX6_signs_1 0 rfl rfl)
theorem dX6_signs_26 : decode cX6_signs 26 = .ok (.iconst 1, 1) := dk_4 (dk_at dksX6_signs_1 3 rfl rfl)
theorem dX6_signs_27 : decode cX6_signs 27 = .ok (.isub, 1) := dk_100 (dk_at dksX6_signs_1 4 rfl rfl)
theorem dX6_signs_28 : decode cX6_signs 28 = .ok (.putfield 333, 3) := dk_181 1 77 (dk_at dksX6_signs_1 5 rfl rfl)
theorem dX6_signs_31 : decode cX6_signs 31 = .ok (.aload_n 0, 1) := dk_42 (dk_at dksX6_signs_1 8 rfl rfl)
theorem dX6_signs_32 : decode cX6_signs 32 = .ok (.dup, 1) := dk_89 (dk_at dksX6_signs_1 9 rfl rfl)
theorem dX6_signs_33 : decode cX6_signs 33 = .ok (.getfield 347, 3) := dk_180 1 91 (dk_at dksX6_signs_1 10 rfl rfl)
theorem dX6_signs_36 : decode cX6_signs 36 = .ok (.iconst 1, 1) := dk_4 (dk_at dksX6_signs_1 13 rfl rfl)
theorem dX6_signs_37 : decode cX6_signs 37 = .ok (.isub, 1) := dk_100 (dk_at dksX6_signs_1 14 rfl rfl)
theorem dX6_signs_38 : decode cX6_signs 38 = .ok (.putfield 347, 3) := dk_181 1 91 (dk_at dksX6_signs_1 15 rfl rfl)
theorem dX6_signs_41 : decode cX6_signs 41 = .ok (.aload_n 0, 1) := dk_42 (dk_at dksX6_signs_1 18 rfl rfl)
theorem dX6_signs_42 : decode cX6_signs 42 = .ok (.invokevirtual 173, 3) := dk_182 0 173 (dk_at dksX6_signs_1 19 rfl rfl)
theorem dX6_signs_45 : decode cX6_signs 45 = .ok (.iconst 1, 1) := dk_4 (dk_at dksX6_signs_1 22 rfl rfl)
theorem dX6_signs_46 : decode cX6_signs 46 = .ok (.ireturn, 1) := dk_172 (dk_at dksX6_signs_1 23 rfl rfl)
theorem dX6_signs_47 : decode cX6_signs 47 = .ok (.aload_n 0, 1) := dk_42 (dk_at dksX6_signs_2 0 rfl rfl)
theorem dX6_signs_48 : decode cX6_signs 48 = .ok (.bipush 16, 2) := dk_16 16 (dk_at dksX6_signs_2 1 rfl rfl)
theorem dX6_signs_50 : decode cX6_signs 50 = .ok (.invokevirtual 183, 3) := dk_182 0 183 (dk_at dksX6_signs_2 3 rfl rfl)
theorem dX6_signs_53 : decode cX6_signs 53 = .ok (.ifCond .eq 7, 3) := dk_153 0 7 (dk_at dksX6_signs_2 6 rfl rfl)
theorem dX6_signs_56 : decode cX6_signs 56 = .ok (.iconst 3, 1) := dk_6 (dk_at dksX6_signs_2 9 rfl rfl)
theorem dX6_signs_57 : decode cX6_signs 57 = .ok (.goto 104, 3) := dk_167 0 104 (dk_at dksX6_signs_2 10 rfl rfl)
theorem dX6_signs_60 : decode cX6_signs 60 = .ok (.aload_n 0, 1) := dk_42 (dk_at dksX6_signs_2 13 rfl rfl)
theorem dX6_signs_61 : decode cX6_signs 61 = .ok (.bipush 17, 2) := dk_16 17 (dk_at dksX6_signs_2 14 rfl rfl)
theorem dX6_signs_63 : decode cX6_signs 63 = .ok (.invokevirtual 183, 3) := dk_182 0 183 (dk_at dksX6_signs_2 16 rfl rfl)
theorem dX6_signs_66 : decode cX6_signs 66 = .ok (.ifCond .eq 7, 3) := dk_153 0 7 (dk_at dksX6_signs_2 19 rfl rfl)
theorem dX6_signs_69 : decode cX6_signs 69 = .ok (.iconst 4, 1) := dk_7 (dk_at dksX6_signs_2 22 rfl rfl)
theorem dX6_signs_70 : decode cX6_signs 70 = .ok (.goto 91, 3) := dk_167 0 91 (dk_at dksX6_signs_3 0 rfl rfl)
theorem dX6_signs_73 : decode cX6_signs 73 = .ok (.aload_n 0, 1) := dk_42 (dk_at dksX6_signs_3 3 rfl rfl)
theorem dX6_signs_74 : decode cX6_signs 74 = .ok (.getfield 139, 3) := dk_180 0 139 (dk_at dksX6_signs_3 4 rfl rfl)
theorem dX6_signs_77 : decode cX6_signs 77 = .ok (.iconst 5, 1) := dk_8 (dk_at dksX6_signs_3 7 rfl rfl)
theorem dX6_signs_78 : decode cX6_signs 78 = .ok (.if_icmp .ne 12, 3) := dk_160 0 12 (dk_at dksX6_signs_3 8 rfl rfl)
theorem dX6_signs_81 : decode cX6_signs 81 = .ok (.iconst 5, 1) := dk_8 (dk_at dksX6_signs_3 11 rfl rfl)
theorem dX6_signs_82 : decode cX6_signs 82 = .ok (.aload_n 0, 1) := dk_42 (dk_at dksX6_signs_3 12 rfl rfl)
theorem dX6_signs_83 : decode cX6_signs 83 = .ok (.getfield 150, 3) := dk_180 0 150 (dk_at dksX6_signs_3 13 rfl rfl)
theorem dX6_signs_86 : decode cX6_signs 86 = .ok (.iadd, 1) := dk_96 (dk_at dksX6_signs_3 16 rfl rfl)
theorem dX6_signs_87 : decode cX6_signs 87 = .ok (.goto 74, 3) := dk_167 0 74 (dk_at dksX6_signs_3 17 rfl rfl)
theorem dX6_signs_90 : decode cX6_signs 90 = .ok (.aload_n 0, 1) := dk_42 (dk_at dksX6_signs_3 20 rfl rfl)
theorem dX6_signs_91 : decode cX6_signs 91 = .ok (.bipush 43, 2) := dk_16 43 (dk_at dksX6_signs_3 21 rfl rfl)
theorem dX6_signs_93 : decode cX6_signs 93 = .ok (.invokevirtual 176, 3) := dk_182 0 176 (dk_at dksX6_signs_4 0 rfl rfl)
theorem dX6_signs_96 : decode cX6_signs 96 = .ok (.ifCond .eq 8, 3) := dk_153 0 8 (dk_at dksX6_signs_4 3 rfl rfl)
theorem dX6_signs_99 : decode cX6_signs 99 = .ok (.bipush 11, 2) := dk_16 11 (dk_at dksX6_signs_4 6 rfl rfl)
theorem dX6_signs_101 : decode cX6_signs 101 = .ok (.goto 60, 3) := dk_167 0 60 (dk_at dksX6_signs_4 8 rfl rfl)
theorem dX6_signs_104 : decode cX6_signs 104 = .ok (.aload_n 0, 1) := dk_42 (dk_at dksX6_signs_4 11 rfl rfl)
theorem dX6_signs_105 : decode cX6_signs 105 = .ok (.bipush 45, 2) := dk_16 45 (dk_at dksX6_signs_4 12 rfl rfl)
theorem dX6_signs_107 : decode cX6_signs 107 = .ok (.invokevirtual 176, 3) := dk_182 0 176 (dk_at dksX6_signs_4 14 rfl rfl)
theorem dX6_signs_110 : decode cX6_signs 110 = .ok (.ifCond .eq 8, 3) := dk_153 0 8 (dk_at dksX6_signs_4 17 rfl rfl)
theorem dX6_signs_113 : decode cX6_signs 113 = .ok (.bipush 12, 2) := dk_16 12 (dk_at dksX6_signs_4 20 rfl rfl)
theorem dX6_signs_115 : decode cX6_signs 115 = .ok (.goto 46, 3) := dk_167 0 46 (dk_at dksX6_signs_5 0 rfl rfl)
theorem dX6_signs_118 : decode cX6_signs 118 = .ok (.aload_n 0, 1) := dk_42 (dk_at dksX6_signs_5 3 rfl rfl)
theorem dX6_signs_119 : decode cX6_signs 119 = .ok (.bipush 42, 2) := dk_16 42 (dk_at dksX6_signs_5 4 rfl rfl)
theorem dX6_signs_121 : decode cX6_signs 121 = .ok (.invokevirtual 176, 3) := dk_182 0 176 (dk_at dksX6_signs_5 6 rfl rfl)
theorem dX6_signs_124 : decode cX6_signs 124 = .ok (.ifCond .eq 8, 3) := dk_153 0 8 (dk_at dksX6_signs_5 9 rfl rfl)
theorem dX6_signs_127 : decode cX6_signs 127 = .ok (.bipush 13, 2) := dk_16 13 (dk_at dksX6_signs_5 12 rfl rfl)
theorem dX6_signs_129 : decode cX6_signs 129 = .ok (.goto 32, 3) := dk_167 0 32 (dk_at dksX6_signs_5 14 rfl rfl)
theorem dX6_signs_132 : decode cX6_signs 132 = .ok (.aload_n 0, 1) := dk_42 (dk_at dksX6_signs_5 17 rfl rfl)
theorem dX6_signs_133 : decode cX6_signs 133 = .ok (.bipush 47, 2) := dk_16 47 (dk_at dksX6_signs_5 18 rfl rfl)
theorem dX6_signs_135 : decode cX6_signs 135 = .ok (.invokevirtual 176, 3) := dk_182 0 176 (dk_at dksX6_signs_5 20 rfl rfl)
theorem dX6_signs_138 : decode cX6_signs 138 = .ok (.ifCond .eq 8, 3) := dk_153 0 8 (dk_at dksX6_signs_6 0 rfl rfl)
theorem dX6_signs_141 : decode cX6_signs 141 = .ok (.bipush 14, 2) := dk_16 14 (dk_at dksX6_signs_6 3 rfl rfl)
theorem dX6_signs_143 : decode cX6_signs 143 = .ok (.goto 18, 3) := dk_167 0 18 (dk_at dksX6_signs_6 5 rfl rfl)
theorem dX6_signs_146 : decode cX6_signs 146 = .ok (.aload_n 0, 1) := dk_42 (dk_at dksX6_signs_6 8 rfl rfl)
theorem dX6_signs_147 : decode cX6_signs 147 = .ok (.bipush 37, 2) := dk_16 37 (dk_at dksX6_signs_6 9 rfl rfl)
theorem dX6_signs_149 : decode cX6_signs 149 = .ok (.invokevirtual 176, 3) := dk_182 0 176 (dk_at dksX6_signs_6 11 rfl rfl)
theorem dX6_signs_152 : decode cX6_signs 152 = .ok (.ifCond .eq 8, 3) := dk_153 0 8 (dk_at dksX6_signs_6 14 rfl rfl)
theorem dX6_signs_155 : decode cX6_signs 155 = .ok (.bipush 15, 2) := dk_16 15 (dk_at dksX6_signs_6 17 rfl rfl)
theorem dX6_signs_157 : decode cX6_signs 157 = .ok (.goto 4, 3) := dk_167 0 4 (dk_at dksX6_signs_6 19 rfl rfl)
theorem dX6_signs_160 : decode cX6_signs 160 = .ok (.iconst 0, 1) := dk_3 (dk_at dksX6_signs_6 22 rfl rfl)
theorem dX6_signs_161 : decode cX6_signs 161 = .ok (.istore_n 1, 1) := dk_60 (dk_at dksX6_signs_6 23 rfl rfl)
theorem dX6_signs_162 : decode cX6_signs 162 = .ok (.iload_n 1, 1) := dk_27 (dk_at dksX6_signs_7 0 rfl rfl)
theorem dX6_signs_163 : decode cX6_signs 163 = .ok (.ifCond .ne 9, 3) := dk_154 0 9 (dk_at dksX6_signs_7 1 rfl rfl)
theorem dX6_signs_166 : decode cX6_signs 166 = .ok (.aload_n 0, 1) := dk_42 (dk_at dksX6_signs_7 4 rfl rfl)
theorem dX6_signs_167 : decode cX6_signs 167 = .ok (.iconst 1, 1) := dk_4 (dk_at dksX6_signs_7 5 rfl rfl)
theorem dX6_signs_168 : decode cX6_signs 168 = .ok (.invokevirtual 163, 3) := dk_182 0 163 (dk_at dksX6_signs_7 6 rfl rfl)
theorem dX6_signs_171 : decode cX6_signs 171 = .ok (.ireturn, 1) := dk_172 (dk_at dksX6_signs_7 9 rfl rfl)
theorem dX6_signs_172 : decode cX6_signs 172 = .ok (.aload_n 0, 1) := dk_42 (dk_at dksX6_signs_7 10 rfl rfl)
theorem dX6_signs_173 : decode cX6_signs 173 = .ok (.iload_n 1, 1) := dk_27 (dk_at dksX6_signs_7 11 rfl rfl)
theorem dX6_signs_174 : decode cX6_signs 174 = .ok (.invokestatic 336, 3) := dk_184 1 80 (dk_at dksX6_signs_7 12 rfl rfl)
theorem dX6_signs_177 : decode cX6_signs 177 = .ok (.iconst 4, 1) := dk_7 (dk_at dksX6_signs_7 15 rfl rfl)
theorem dX6_signs_178 : decode cX6_signs 178 = .ok (.if_icmp .ne 7, 3) := dk_160 0 7 (dk_at dksX6_signs_7 16 rfl rfl)
theorem dX6_signs_181 : decode cX6_signs 181 = .ok (.iconst 5, 1) := dk_8 (dk_at dksX6_signs_7 19 rfl rfl)
theorem dX6_signs_182 : decode cX6_signs 182 = .ok (.goto 7, 3) := dk_167 0 7 (dk_at dksX6_signs_7 20 rfl rfl)
theorem dX6_signs_185 : decode cX6_signs 185 = .ok (.iload_n 1, 1) := dk_27 (dk_at dksX6_signs_7 23 rfl rfl)
theorem dX6_signs_186 : decode cX6_signs 186 = .ok (.invokestatic 336, 3) := dk_184 1 80 (dk_at dksX6_signs_8 0 rfl rfl)
theorem dX6_signs_189 : decode cX6_signs 189 = .ok (.invokevirtual 366, 3) := dk_182 1 110 (dk_at dksX6_signs_8 3 rfl rfl)
theorem dX6_signs_192 : decode cX6_signs 192 = .ok (.iload_n 1, 1) := dk_27 (dk_at dksX6_signs_8 6 rfl rfl)
theorem dX6_signs_193 : decode cX6_signs 193 = .ok (.invokestatic 336, 3) := dk_184 1 80 (dk_at dksX6_signs_8 7 rfl rfl)
theorem dX6_signs_196 : decode cX6_signs 196 = .ok (.iconst 4, 1) := dk_7 (dk_at dksX6_signs_8 10 rfl rfl)
theorem dX6_signs_197 : decode cX6_signs 197 = .ok (.if_icmp .ne 34, 3) := dk_160 0 34 (dk_at dksX6_signs_8 11 rfl rfl)
theorem dX6_signs_200 : decode cX6_signs 200 = .ok (.aload_n 0, 1) := dk_42 (dk_at dksX6_signs_8 14 rfl rfl)
theorem dX6_signs_201 : decode cX6_signs 201 = .ok (.getfield 333, 3) := dk_180 1 77 (dk_at dksX6_signs_8 15 rfl rfl)
theorem dX6_signs_204 : decode cX6_signs 204 = .ok (.ifCond .le 27, 3) := dk_158 0 27 (dk_at dksX6_signs_8 18 rfl rfl)
theorem dX6_signs_207 : decode cX6_signs 207 = .ok (.aload_n 0, 1) := dk_42 (dk_at dksX6_signs_8 21 rfl rfl)
theorem dX6_signs_208 : decode cX6_signs 208 = .ok (.getfield 72, 3) := dk_180 0 72 (dk_at dksX6_signs_9 0 rfl rfl)
theorem dX6_signs_211 : decode cX6_signs 211 = .ok (.aload_n 0, 1) := dk_42 (dk_at dksX6_signs_9 3 rfl rfl)
theorem dX6_signs_212 : decode cX6_signs 212 = .ok (.getfield 333, 3) := dk_180 1 77 (dk_at dksX6_signs_9 4 rfl rfl)
theorem dX6_signs_215 : decode cX6_signs 215 = .ok (.iconst 1, 1) := dk_4 (dk_at dksX6_signs_9 7 rfl rfl)
theorem dX6_signs_216 : decode cX6_signs 216 = .ok (.isub, 1) := dk_100 (dk_at dksX6_signs_9 8 rfl rfl)
theorem dX6_signs_217 : decode cX6_signs 217 = .ok (.iaload, 1) := dk_46 (dk_at dksX6_signs_9 9 rfl rfl)
theorem dX6_signs_218 : decode cX6_signs 218 = .ok (.invokestatic 336, 3) := dk_184 1 80 (dk_at dksX6_signs_9 10 rfl rfl)
theorem dX6_signs_221 : decode cX6_signs 221 = .ok (.iconst 4, 1) := dk_7 (dk_at dksX6_signs_9 13 rfl rfl)
theorem dX6_signs_222 : decode cX6_signs 222 = .ok (.if_icmp .ne 9, 3) := dk_160 0 9 (dk_at dksX6_signs_9 14 rfl rfl)
theorem dX6_signs_225 : decode cX6_signs 225 = .ok (.aload_n 0, 1) := dk_42 (dk_at dksX6_signs_9 17 rfl rfl)
theorem dX6_signs_226 : decode cX6_signs 226 = .ok (.iconst 1, 1) := dk_4 (dk_at dksX6_signs_9 18 rfl rfl)
theorem dX6_signs_227 : decode cX6_signs 227 = .ok (.invokevirtual 163, 3) := dk_182 0 163 (dk_at dksX6_signs_9 19 rfl rfl)
theorem dX6_signs_230 : decode cX6_signs 230 = .ok (.ireturn, 1) := dk_172 (dk_at dksX6_signs_9 22 rfl rfl)
theorem dX6_signs_231 : decode cX6_signs 231 = .ok (.aload_n 0, 1) := dk_42 (dk_at dksX6_signs_9 23 rfl rfl)
theorem dX6_signs_232 : decode cX6_signs 232 = .ok (.invokevirtual 357, 3) := dk_182 1 101 (dk_at dksX6_signs_10 0 rfl rfl)
theorem dX6_signs_235 : decode cX6_signs 235 = .ok (.ifCond .ne 5, 3) := dk_154 0 5 (dk_at dksX6_signs_10 3 rfl rfl)
theorem dX6_signs_238 : decode cX6_signs 238 = .ok (.iconst 0, 1) := dk_3 (dk_at dksX6_signs_10 6 rfl rfl)
theorem dX6_signs_239 : decode cX6_signs 239 = .ok (.ireturn, 1) := dk_172 (dk_at dksX6_signs_10 7 rfl rfl)
theorem dX6_signs_240 : decode cX6_signs 240 = .ok (.aload_n 0, 1) := dk_42 (dk_at dksX6_signs_10 8 rfl rfl)
theorem dX6_signs_241 : decode cX6_signs 241 = .ok (.iload_n 1, 1) := dk_27 (dk_at dksX6_signs_10 9 rfl rfl)
theorem dX6_signs_242 : decode cX6_signs 242 = .ok (.invokevirtual 350, 3) := dk_182 1 94 (dk_at dksX6_signs_10 10 rfl rfl)
theorem dX6_signs_245 : decode cX6_signs 245 = .ok (.aload_n 0, 1) := dk_42 (dk_at dksX6_signs_10 13 rfl rfl)
theorem dX6_signs_246 : decode cX6_signs 246 = .ok (.iconst 1, 1) := dk_4 (dk_at dksX6_signs_10 14 rfl rfl)
theorem dX6_signs_247 : decode cX6_signs 247 = .ok (.putfield 363, 3) := dk_181 1 107 (dk_at dksX6_signs_10 15 rfl rfl)
theorem dX6_signs_250 : decode cX6_signs 250 = .ok (.aload_n 0, 1) := dk_42 (dk_at dksX6_signs_10 18 rfl rfl)
theorem dX6_signs_251 : decode cX6_signs 251 = .ok (.iload_n 1, 1) := dk_27 (dk_at dksX6_signs_10 19 rfl rfl)
theorem dX6_signs_252 : decode cX6_signs 252 = .ok (.invokestatic 336, 3) := dk_184 1 80 (dk_at dksX6_signs_10 20 rfl rfl)
theorem dX6_signs_255 : decode cX6_signs 255 = .ok (.iconst 3, 1) := dk_6 (dk_at dksX6_signs_10 23 rfl rfl)
theorem dX6_signs_256 : decode cX6_signs 256 = .ok (.if_icmp .ge 7, 3) := dk_162 0 7 (dk_at dksX6_signs_11 0 rfl rfl)
theorem dX6_signs_259 : decode cX6_signs 259 = .ok (.iconst 1, 1) := dk_4 (dk_at dksX6_signs_11 3 rfl rfl)
theorem dX6_signs_260 : decode cX6_signs 260 = .ok (.goto 4, 3) := dk_167 0 4 (dk_at dksX6_signs_11 4 rfl rfl)
theorem dX6_signs_263 : decode cX6_signs 263 = .ok (.iconst 0, 1) := dk_3 (dk_at dksX6_signs_11 7 rfl rfl)
theorem dX6_signs_264 : decode cX6_signs 264 = .ok (.putfield 354, 3) := dk_181 1 98 (dk_at dksX6_signs_11 8 rfl rfl)
theorem dX6_signs_267 : decode cX6_signs 267 = .ok (.aload_n 0, 1) := dk_42 (dk_at dksX6_signs_11 11 rfl rfl)
theorem dX6_signs_268 : decode cX6_signs 268 = .ok (.invokevirtual 173, 3) := dk_182 0 173 (dk_at dksX6_signs_11 12 rfl rfl)
theorem dX6_signs_271 : decode cX6_signs 271 = .ok (.iconst 1, 1) := dk_4 (dk_at dksX6_signs_11 15 rfl rfl)
theorem dX6_signs_272 : decode cX6_signs 272 = .ok (.ireturn, 1) := dk_172 (dk_at dksX6_signs_11 16 rfl rfl)
abbrev cX6_bind : ByteArray := prog_20_method_45_code
def yX6_bind : MethodName := ⟨RX6, "bind", "(I)V"⟩
def dkwX6_bind_3 : List UInt8 := [182, 1, 87, 167, 255, 183, 177]
abbrev dktX6_bind_3 : List UInt8 := dkwX6_bind_3 ++ []
def dkwX6_bind_2 : List UInt8 := [5, 160, 0, 7, 2, 167, 0, 7, 42, 182, 1, 84, 62, 42, 182, 1, 84, 54, 4, 42, 28, 21, 4, 29]
abbrev dktX6_bind_2 : List UInt8 := dkwX6_bind_2 ++ dktX6_bind_3
def dkwX6_bind_1 : List UInt8 := [161, 0, 54, 42, 89, 180, 1, 77, 4, 100, 181, 1, 77, 42, 180, 0, 72, 42, 180, 1, 77, 46, 61, 28]
abbrev dktX6_bind_1 : List UInt8 := dkwX6_bind_1 ++ dktX6_bind_2
def dkwX6_bind_0 : List UInt8 := [42, 180, 1, 77, 158, 0, 72, 42, 180, 0, 72, 42, 180, 1, 77, 4, 100, 46, 184, 1, 80, 27]
abbrev dktX6_bind_0 : List UInt8 := dkwX6_bind_0 ++ dktX6_bind_1
theorem dksX6_bind_0 : cX6_bind.data.toList.drop 0 = dktX6_bind_0 := by decide +kernel
theorem dksX6_bind_1 : cX6_bind.data.toList.drop 22 = dktX6_bind_1 := dk_seg dksX6_bind_0 22 rfl rfl
theorem dksX6_bind_2 : cX6_bind.data.toList.drop 46 = dktX6_bind_2 := dk_seg dksX6_bind_1 24 rfl rfl
theorem dksX6_bind_3 : cX6_bind.data.toList.drop 70 = dktX6_bind_3 := dk_seg dksX6_bind_2 24 rfl rfl
theorem dX6_bind_0 : decode cX6_bind 0 = .ok (.aload_n 0, 1) := dk_42 (dk_at dksX6_bind_0 0 rfl rfl)
theorem dX6_bind_1 : decode cX6_bind 1 = .ok (.getfield 333, 3) := dk_180 1 77 (dk_at dksX6_bind_0 1 rfl rfl)
theorem dX6_bind_4 : decode cX6_bind 4 = .ok (.ifCond .le 72, 3) := dk_158 0 72 (dk_at dksX6_bind_0 4 rfl rfl)
theorem dX6_bind_7 : decode cX6_bind 7 = .ok (.aload_n 0, 1) := dk_42 (dk_at dksX6_bind_0 7 rfl rfl)
theorem dX6_bind_8 : decode cX6_bind 8 = .ok (.getfield 72, 3) := dk_180 0 72 (dk_at dksX6_bind_0 8 rfl rfl)
theorem dX6_bind_11 : decode cX6_bind 11 = .ok (.aload_n 0, 1) := dk_42 (dk_at dksX6_bind_0 11 rfl rfl)
theorem dX6_bind_12 : decode cX6_bind 12 = .ok (.getfield 333, 3) := dk_180 1 77 (dk_at dksX6_bind_0 12 rfl rfl)
theorem dX6_bind_15 : decode cX6_bind 15 = .ok (.iconst 1, 1) := dk_4 (dk_at dksX6_bind_0 15 rfl rfl)
theorem dX6_bind_16 : decode cX6_bind 16 = .ok (.isub, 1) := dk_100 (dk_at dksX6_bind_0 16 rfl rfl)
theorem dX6_bind_17 : decode cX6_bind 17 = .ok (.iaload, 1) := dk_46 (dk_at dksX6_bind_0 17 rfl rfl)
theorem dX6_bind_18 : decode cX6_bind 18 = .ok (.invokestatic 336, 3) := dk_184 1 80 (dk_at dksX6_bind_0 18 rfl rfl)
theorem dX6_bind_21 : decode cX6_bind 21 = .ok (.iload_n 1, 1) := dk_27 (dk_at dksX6_bind_0 21 rfl rfl)
theorem dX6_bind_22 : decode cX6_bind 22 = .ok (.if_icmp .lt 54, 3) := dk_161 0 54 (dk_at dksX6_bind_1 0 rfl rfl)
theorem dX6_bind_25 : decode cX6_bind 25 = .ok (.aload_n 0, 1) := dk_42 (dk_at dksX6_bind_1 3 rfl rfl)
theorem dX6_bind_26 : decode cX6_bind 26 = .ok (.dup, 1) := dk_89 (dk_at dksX6_bind_1 4 rfl rfl)
theorem dX6_bind_27 : decode cX6_bind 27 = .ok (.getfield 333, 3) := dk_180 1 77 (dk_at dksX6_bind_1 5 rfl rfl)
theorem dX6_bind_30 : decode cX6_bind 30 = .ok (.iconst 1, 1) := dk_4 (dk_at dksX6_bind_1 8 rfl rfl)
theorem dX6_bind_31 : decode cX6_bind 31 = .ok (.isub, 1) := dk_100 (dk_at dksX6_bind_1 9 rfl rfl)
theorem dX6_bind_32 : decode cX6_bind 32 = .ok (.putfield 333, 3) := dk_181 1 77 (dk_at dksX6_bind_1 10 rfl rfl)
theorem dX6_bind_35 : decode cX6_bind 35 = .ok (.aload_n 0, 1) := dk_42 (dk_at dksX6_bind_1 13 rfl rfl)
theorem dX6_bind_36 : decode cX6_bind 36 = .ok (.getfield 72, 3) := dk_180 0 72 (dk_at dksX6_bind_1 14 rfl rfl)
theorem dX6_bind_39 : decode cX6_bind 39 = .ok (.aload_n 0, 1) := dk_42 (dk_at dksX6_bind_1 17 rfl rfl)
theorem dX6_bind_40 : decode cX6_bind 40 = .ok (.getfield 333, 3) := dk_180 1 77 (dk_at dksX6_bind_1 18 rfl rfl)
theorem dX6_bind_43 : decode cX6_bind 43 = .ok (.iaload, 1) := dk_46 (dk_at dksX6_bind_1 21 rfl rfl)
theorem dX6_bind_44 : decode cX6_bind 44 = .ok (.istore_n 2, 1) := dk_61 (dk_at dksX6_bind_1 22 rfl rfl)
theorem dX6_bind_45 : decode cX6_bind 45 = .ok (.iload_n 2, 1) := dk_28 (dk_at dksX6_bind_1 23 rfl rfl)
theorem dX6_bind_46 : decode cX6_bind 46 = .ok (.iconst 2, 1) := dk_5 (dk_at dksX6_bind_2 0 rfl rfl)
theorem dX6_bind_47 : decode cX6_bind 47 = .ok (.if_icmp .ne 7, 3) := dk_160 0 7 (dk_at dksX6_bind_2 1 rfl rfl)
theorem dX6_bind_50 : decode cX6_bind 50 = .ok (.iconst (-1), 1) := dk_2 (dk_at dksX6_bind_2 4 rfl rfl)
theorem dX6_bind_51 : decode cX6_bind 51 = .ok (.goto 7, 3) := dk_167 0 7 (dk_at dksX6_bind_2 5 rfl rfl)
theorem dX6_bind_54 : decode cX6_bind 54 = .ok (.aload_n 0, 1) := dk_42 (dk_at dksX6_bind_2 8 rfl rfl)
theorem dX6_bind_55 : decode cX6_bind 55 = .ok (.invokevirtual 340, 3) := dk_182 1 84 (dk_at dksX6_bind_2 9 rfl rfl)
theorem dX6_bind_58 : decode cX6_bind 58 = .ok (.istore_n 3, 1) := dk_62 (dk_at dksX6_bind_2 12 rfl rfl)
theorem dX6_bind_59 : decode cX6_bind 59 = .ok (.aload_n 0, 1) := dk_42 (dk_at dksX6_bind_2 13 rfl rfl)
theorem dX6_bind_60 : decode cX6_bind 60 = .ok (.invokevirtual 340, 3) := dk_182 1 84 (dk_at dksX6_bind_2 14 rfl rfl)
theorem dX6_bind_63 : decode cX6_bind 63 = .ok (.istore 4, 2) := dk_54 4 (dk_at dksX6_bind_2 17 rfl rfl)
theorem dX6_bind_65 : decode cX6_bind 65 = .ok (.aload_n 0, 1) := dk_42 (dk_at dksX6_bind_2 19 rfl rfl)
theorem dX6_bind_66 : decode cX6_bind 66 = .ok (.iload_n 2, 1) := dk_28 (dk_at dksX6_bind_2 20 rfl rfl)
theorem dX6_bind_67 : decode cX6_bind 67 = .ok (.iload 4, 2) := dk_21 4 (dk_at dksX6_bind_2 21 rfl rfl)
theorem dX6_bind_69 : decode cX6_bind 69 = .ok (.iload_n 3, 1) := dk_29 (dk_at dksX6_bind_2 23 rfl rfl)
theorem dX6_bind_70 : decode cX6_bind 70 = .ok (.invokevirtual 343, 3) := dk_182 1 87 (dk_at dksX6_bind_3 0 rfl rfl)
theorem dX6_bind_73 : decode cX6_bind 73 = .ok (.goto (-73), 3) := dk_167 255 183 (dk_at dksX6_bind_3 3 rfl rfl)
theorem dX6_bind_76 : decode cX6_bind 76 = .ok (.return_, 1) := dk_177 (dk_at dksX6_bind_3 6 rfl rfl)
abbrev cX6_rank : ByteArray := prog_20_method_42_code
def yX6_rank : MethodName := ⟨RX6, "rank", "(I)I"⟩
def dkwX6_rank_2 : List UInt8 := [167, 0, 13, 26, 7, 160, 0, 7, 4, 167, 0, 4, 3, 172]
abbrev dktX6_rank_2 : List UInt8 := dkwX6_rank_2 ++ []
def dkwX6_rank_1 : List UInt8 := [161, 0, 7, 7, 167, 0, 31, 26, 5, 160, 0, 7, 6, 167, 0, 22, 26, 6, 160, 0, 7, 5]
abbrev dktX6_rank_1 : List UInt8 := dkwX6_rank_1 ++ dktX6_rank_2
def dkwX6_rank_0 : List UInt8 := [26, 16, 13, 161, 0, 8, 16, 6, 167, 0, 50, 26, 16, 11, 161, 0, 7, 8, 167, 0, 40, 26, 8]
abbrev dktX6_rank_0 : List UInt8 := dkwX6_rank_0 ++ dktX6_rank_1
theorem dksX6_rank_0 : cX6_rank.data.toList.drop 0 = dktX6_rank_0 := by decide +kernel
theorem dksX6_rank_1 : cX6_rank.data.toList.drop 23 = dktX6_rank_1 := dk_seg dksX6_rank_0 23 rfl rfl
theorem dksX6_rank_2 : cX6_rank.data.toList.drop 45 = dktX6_rank_2 := dk_seg dksX6_rank_1 22 rfl rfl
theorem dX6_rank_0 : decode cX6_rank 0 = .ok (.iload_n 0, 1) := dk_26 (dk_at dksX6_rank_0 0 rfl rfl)
theorem dX6_rank_1 : decode cX6_rank 1 = .ok (.bipush 13, 2) := dk_16 13 (dk_at dksX6_rank_0 1 rfl rfl)
theorem dX6_rank_3 : decode cX6_rank 3 = .ok (.if_icmp .lt 8, 3) := dk_161 0 8 (dk_at dksX6_rank_0 3 rfl rfl)
theorem dX6_rank_6 : decode cX6_rank 6 = .ok (.bipush 6, 2) := dk_16 6 (dk_at dksX6_rank_0 6 rfl rfl)
theorem dX6_rank_8 : decode cX6_rank 8 = .ok (.goto 50, 3) := dk_167 0 50 (dk_at dksX6_rank_0 8 rfl rfl)
theorem dX6_rank_11 : decode cX6_rank 11 = .ok (.iload_n 0, 1) := dk_26 (dk_at dksX6_rank_0 11 rfl rfl)
theorem dX6_rank_12 : decode cX6_rank 12 = .ok (.bipush 11, 2) := dk_16 11 (dk_at dksX6_rank_0 12 rfl rfl)
theorem dX6_rank_14 : decode cX6_rank 14 = .ok (.if_icmp .lt 7, 3) := dk_161 0 7 (dk_at dksX6_rank_0 14 rfl rfl)
theorem dX6_rank_17 : decode cX6_rank 17 = .ok (.iconst 5, 1) := dk_8 (dk_at dksX6_rank_0 17 rfl rfl)
theorem dX6_rank_18 : decode cX6_rank 18 = .ok (.goto 40, 3) := dk_167 0 40 (dk_at dksX6_rank_0 18 rfl rfl)
theorem dX6_rank_21 : decode cX6_rank 21 = .ok (.iload_n 0, 1) := dk_26 (dk_at dksX6_rank_0 21 rfl rfl)
theorem dX6_rank_22 : decode cX6_rank 22 = .ok (.iconst 5, 1) := dk_8 (dk_at dksX6_rank_0 22 rfl rfl)
theorem dX6_rank_23 : decode cX6_rank 23 = .ok (.if_icmp .lt 7, 3) := dk_161 0 7 (dk_at dksX6_rank_1 0 rfl rfl)
theorem dX6_rank_26 : decode cX6_rank 26 = .ok (.iconst 4, 1) := dk_7 (dk_at dksX6_rank_1 3 rfl rfl)
theorem dX6_rank_27 : decode cX6_rank 27 = .ok (.goto 31, 3) := dk_167 0 31 (dk_at dksX6_rank_1 4 rfl rfl)
theorem dX6_rank_30 : decode cX6_rank 30 = .ok (.iload_n 0, 1) := dk_26 (dk_at dksX6_rank_1 7 rfl rfl)
theorem dX6_rank_31 : decode cX6_rank 31 = .ok (.iconst 2, 1) := dk_5 (dk_at dksX6_rank_1 8 rfl rfl)
theorem dX6_rank_32 : decode cX6_rank 32 = .ok (.if_icmp .ne 7, 3) := dk_160 0 7 (dk_at dksX6_rank_1 9 rfl rfl)
theorem dX6_rank_35 : decode cX6_rank 35 = .ok (.iconst 3, 1) := dk_6 (dk_at dksX6_rank_1 12 rfl rfl)
theorem dX6_rank_36 : decode cX6_rank 36 = .ok (.goto 22, 3) := dk_167 0 22 (dk_at dksX6_rank_1 13 rfl rfl)
theorem dX6_rank_39 : decode cX6_rank 39 = .ok (.iload_n 0, 1) := dk_26 (dk_at dksX6_rank_1 16 rfl rfl)
theorem dX6_rank_40 : decode cX6_rank 40 = .ok (.iconst 3, 1) := dk_6 (dk_at dksX6_rank_1 17 rfl rfl)
theorem dX6_rank_41 : decode cX6_rank 41 = .ok (.if_icmp .ne 7, 3) := dk_160 0 7 (dk_at dksX6_rank_1 18 rfl rfl)
theorem dX6_rank_44 : decode cX6_rank 44 = .ok (.iconst 2, 1) := dk_5 (dk_at dksX6_rank_1 21 rfl rfl)
theorem dX6_rank_45 : decode cX6_rank 45 = .ok (.goto 13, 3) := dk_167 0 13 (dk_at dksX6_rank_2 0 rfl rfl)
theorem dX6_rank_48 : decode cX6_rank 48 = .ok (.iload_n 0, 1) := dk_26 (dk_at dksX6_rank_2 3 rfl rfl)
theorem dX6_rank_49 : decode cX6_rank 49 = .ok (.iconst 4, 1) := dk_7 (dk_at dksX6_rank_2 4 rfl rfl)
theorem dX6_rank_50 : decode cX6_rank 50 = .ok (.if_icmp .ne 7, 3) := dk_160 0 7 (dk_at dksX6_rank_2 5 rfl rfl)
theorem dX6_rank_53 : decode cX6_rank 53 = .ok (.iconst 1, 1) := dk_4 (dk_at dksX6_rank_2 8 rfl rfl)
theorem dX6_rank_54 : decode cX6_rank 54 = .ok (.goto 4, 3) := dk_167 0 4 (dk_at dksX6_rank_2 9 rfl rfl)
theorem dX6_rank_57 : decode cX6_rank 57 = .ok (.iconst 0, 1) := dk_3 (dk_at dksX6_rank_2 12 rfl rfl)
theorem dX6_rank_58 : decode cX6_rank 58 = .ok (.ireturn, 1) := dk_172 (dk_at dksX6_rank_2 13 rfl rfl)
abbrev cX6_dropHeld : ByteArray := prog_20_method_44_code
def yX6_dropHeld : MethodName := ⟨RX6, "dropHeld", "()I"⟩
def dkwX6_dropHeld_0 : List UInt8 := [42, 89, 180, 1, 74, 4, 100, 181, 1, 74, 42, 180, 0, 75, 42, 180, 1, 74, 46, 172]
abbrev dktX6_dropHeld_0 : List UInt8 := dkwX6_dropHeld_0 ++ []
theorem dksX6_dropHeld_0 : cX6_dropHeld.data.toList.drop 0 = dktX6_dropHeld_0 := by decide +kernel
theorem dX6_dropHeld_0 : decode cX6_dropHeld 0 = .ok (.aload_n 0, 1) := dk_42 (dk_at dksX6_dropHeld_0 0 rfl rfl)
theorem dX6_dropHeld_1 : decode cX6_dropHeld 1 = .ok (.dup, 1) := dk_89 (dk_at dksX6_dropHeld_0 1 rfl rfl)
theorem dX6_dropHeld_2 : decode cX6_dropHeld 2 = .ok (.getfield 330, 3) := dk_180 1 74 (dk_at dksX6_dropHeld_0 2 rfl rfl)
theorem dX6_dropHeld_5 : decode cX6_dropHeld 5 = .ok (.iconst 1, 1) := dk_4 (dk_at dksX6_dropHeld_0 5 rfl rfl)
theorem dX6_dropHeld_6 : decode cX6_dropHeld 6 = .ok (.isub, 1) := dk_100 (dk_at dksX6_dropHeld_0 6 rfl rfl)
theorem dX6_dropHeld_7 : decode cX6_dropHeld 7 = .ok (.putfield 330, 3) := dk_181 1 74 (dk_at dksX6_dropHeld_0 7 rfl rfl)
theorem dX6_dropHeld_10 : decode cX6_dropHeld 10 = .ok (.aload_n 0, 1) := dk_42 (dk_at dksX6_dropHeld_0 10 rfl rfl)
theorem dX6_dropHeld_11 : decode cX6_dropHeld 11 = .ok (.getfield 75, 3) := dk_180 0 75 (dk_at dksX6_dropHeld_0 11 rfl rfl)
theorem dX6_dropHeld_14 : decode cX6_dropHeld 14 = .ok (.aload_n 0, 1) := dk_42 (dk_at dksX6_dropHeld_0 14 rfl rfl)
theorem dX6_dropHeld_15 : decode cX6_dropHeld 15 = .ok (.getfield 330, 3) := dk_180 1 74 (dk_at dksX6_dropHeld_0 15 rfl rfl)
theorem dX6_dropHeld_18 : decode cX6_dropHeld 18 = .ok (.iaload, 1) := dk_46 (dk_at dksX6_dropHeld_0 18 rfl rfl)
theorem dX6_dropHeld_19 : decode cX6_dropHeld 19 = .ok (.ireturn, 1) := dk_172 (dk_at dksX6_dropHeld_0 19 rfl rfl)
abbrev cX6_personLine : ByteArray := prog_20_method_33_code
def yX6_personLine : MethodName := ⟨RX6, "personLine", "()Z"⟩
def dkwX6_personLine_5 : List UInt8 := [180, 1, 23, 80, 42, 89, 180, 0, 192, 4, 96, 181, 0, 192, 4, 172]
abbrev dktX6_personLine_5 : List UInt8 := dkwX6_personLine_5 ++ []
def dkwX6_personLine_4 : List UInt8 := [180, 1, 23, 182, 1, 27, 154, 0, 5, 3, 172, 42, 180, 0, 45, 16, 6, 42, 180, 0, 192, 96, 42]
abbrev dktX6_personLine_4 : List UInt8 := dkwX6_personLine_4 ++ dktX6_personLine_5
def dkwX6_personLine_3 : List UInt8 := [180, 0, 192, 96, 20, 1, 17, 80, 42, 16, 9, 182, 0, 183, 153, 0, 36, 42, 182, 0, 173, 42, 42]
abbrev dktX6_personLine_3 : List UInt8 := dkwX6_personLine_3 ++ dktX6_personLine_4
def dkwX6_personLine_2 : List UInt8 := [180, 0, 41, 16, 6, 42, 180, 0, 192, 96, 42, 180, 1, 23, 80, 42, 180, 0, 45, 16, 6, 42]
abbrev dktX6_personLine_2 : List UInt8 := dkwX6_personLine_2 ++ dktX6_personLine_3
def dkwX6_personLine_1 : List UInt8 := [16, 6, 42, 180, 0, 192, 182, 1, 3, 153, 0, 11, 42, 9, 182, 1, 27, 154, 0, 5, 3, 172, 42]
abbrev dktX6_personLine_1 : List UInt8 := dkwX6_personLine_1 ++ dktX6_personLine_2
def dkwX6_personLine_0 : List UInt8 := [42, 180, 0, 192, 16, 6, 160, 0, 9, 42, 5, 182, 0, 163, 172, 42, 182, 0, 173, 42, 42, 180, 0, 38]
abbrev dktX6_personLine_0 : List UInt8 := dkwX6_personLine_0 ++ dktX6_personLine_1
theorem dksX6_personLine_0 : cX6_personLine.data.toList.drop 0 = dktX6_personLine_0 := by decide +kernel
theorem dksX6_personLine_1 : cX6_personLine.data.toList.drop 24 = dktX6_personLine_1 := dk_seg dksX6_personLine_0 24 rfl rfl
theorem dksX6_personLine_2 : cX6_personLine.data.toList.drop 47 = dktX6_personLine_2 := dk_seg dksX6_personLine_1 23 rfl rfl
theorem dksX6_personLine_3 : cX6_personLine.data.toList.drop 69 = dktX6_personLine_3 := dk_seg dksX6_personLine_2 22 rfl rfl
theorem dksX6_personLine_4 : cX6_personLine.data.toList.drop 92 = dktX6_personLine_4 := dk_seg dksX6_personLine_3 23 rfl rfl
theorem dksX6_personLine_5 : cX6_personLine.data.toList.drop 115 = dktX6_personLine_5 := dk_seg dksX6_personLine_4 23 rfl rfl
theorem dX6_personLine_0 : decode cX6_personLine 0 = .ok (.aload_n 0, 1) := dk_42 (dk_at dksX6_personLine_0 0 rfl rfl)
theorem dX6_personLine_1 : decode cX6_personLine 1 = .ok (.getfield 192, 3) := dk_180 0 192 (dk_at dksX6_personLine_0 1 rfl rfl)
theorem dX6_personLine_4 : decode cX6_personLine 4 = .ok (.bipush 6, 2) := dk_16 6 (dk_at dksX6_personLine_0 4 rfl rfl)
theorem dX6_personLine_6 : decode cX6_personLine 6 = .ok (.if_icmp .ne 9, 3) := dk_160 0 9 (dk_at dksX6_personLine_0 6 rfl rfl)
theorem dX6_personLine_9 : decode cX6_personLine 9 = .ok (.aload_n 0, 1) := dk_42 (dk_at dksX6_personLine_0 9 rfl rfl)
theorem dX6_personLine_10 : decode cX6_personLine 10 = .ok (.iconst 2, 1) := dk_5 (dk_at dksX6_personLine_0 10 rfl rfl)
theorem dX6_personLine_11 : decode cX6_personLine 11 = .ok (.invokevirtual 163, 3) := dk_182 0 163 (dk_at dksX6_personLine_0 11 rfl rfl)
theorem dX6_personLine_14 : decode cX6_personLine 14 = .ok (.ireturn, 1) := dk_172 (dk_at dksX6_personLine_0 14 rfl rfl)
theorem dX6_personLine_15 : decode cX6_personLine 15 = .ok (.aload_n 0, 1) := dk_42 (dk_at dksX6_personLine_0 15 rfl rfl)
theorem dX6_personLine_16 : decode cX6_personLine 16 = .ok (.invokevirtual 173, 3) := dk_182 0 173 (dk_at dksX6_personLine_0 16 rfl rfl)
theorem dX6_personLine_19 : decode cX6_personLine 19 = .ok (.aload_n 0, 1) := dk_42 (dk_at dksX6_personLine_0 19 rfl rfl)
theorem dX6_personLine_20 : decode cX6_personLine 20 = .ok (.aload_n 0, 1) := dk_42 (dk_at dksX6_personLine_0 20 rfl rfl)
theorem dX6_personLine_21 : decode cX6_personLine 21 = .ok (.getfield 38, 3) := dk_180 0 38 (dk_at dksX6_personLine_0 21 rfl rfl)
theorem dX6_personLine_24 : decode cX6_personLine 24 = .ok (.bipush 6, 2) := dk_16 6 (dk_at dksX6_personLine_1 0 rfl rfl)
theorem dX6_personLine_26 : decode cX6_personLine 26 = .ok (.aload_n 0, 1) := dk_42 (dk_at dksX6_personLine_1 2 rfl rfl)
theorem dX6_personLine_27 : decode cX6_personLine 27 = .ok (.getfield 192, 3) := dk_180 0 192 (dk_at dksX6_personLine_1 3 rfl rfl)
theorem dX6_personLine_30 : decode cX6_personLine 30 = .ok (.invokevirtual 259, 3) := dk_182 1 3 (dk_at dksX6_personLine_1 6 rfl rfl)
theorem dX6_personLine_33 : decode cX6_personLine 33 = .ok (.ifCond .eq 11, 3) := dk_153 0 11 (dk_at dksX6_personLine_1 9 rfl rfl)
theorem dX6_personLine_36 : decode cX6_personLine 36 = .ok (.aload_n 0, 1) := dk_42 (dk_at dksX6_personLine_1 12 rfl rfl)
theorem dX6_personLine_37 : decode cX6_personLine 37 = .ok (.lconst 0, 1) := dk_9 (dk_at dksX6_personLine_1 13 rfl rfl)
theorem dX6_personLine_38 : decode cX6_personLine 38 = .ok (.invokevirtual 283, 3) := dk_182 1 27 (dk_at dksX6_personLine_1 14 rfl rfl)
theorem dX6_personLine_41 : decode cX6_personLine 41 = .ok (.ifCond .ne 5, 3) := dk_154 0 5 (dk_at dksX6_personLine_1 17 rfl rfl)
theorem dX6_personLine_44 : decode cX6_personLine 44 = .ok (.iconst 0, 1) := dk_3 (dk_at dksX6_personLine_1 20 rfl rfl)
theorem dX6_personLine_45 : decode cX6_personLine 45 = .ok (.ireturn, 1) := dk_172 (dk_at dksX6_personLine_1 21 rfl rfl)
theorem dX6_personLine_46 : decode cX6_personLine 46 = .ok (.aload_n 0, 1) := dk_42 (dk_at dksX6_personLine_1 22 rfl rfl)
theorem dX6_personLine_47 : decode cX6_personLine 47 = .ok (.getfield 41, 3) := dk_180 0 41 (dk_at dksX6_personLine_2 0 rfl rfl)
theorem dX6_personLine_50 : decode cX6_personLine 50 = .ok (.bipush 6, 2) := dk_16 6 (dk_at dksX6_personLine_2 3 rfl rfl)
theorem dX6_personLine_52 : decode cX6_personLine 52 = .ok (.aload_n 0, 1) := dk_42 (dk_at dksX6_personLine_2 5 rfl rfl)
theorem dX6_personLine_53 : decode cX6_personLine 53 = .ok (.getfield 192, 3) := dk_180 0 192 (dk_at dksX6_personLine_2 6 rfl rfl)
theorem dX6_personLine_56 : decode cX6_personLine 56 = .ok (.iadd, 1) := dk_96 (dk_at dksX6_personLine_2 9 rfl rfl)
theorem dX6_personLine_57 : decode cX6_personLine 57 = .ok (.aload_n 0, 1) := dk_42 (dk_at dksX6_personLine_2 10 rfl rfl)
theorem dX6_personLine_58 : decode cX6_personLine 58 = .ok (.getfield 279, 3) := dk_180 1 23 (dk_at dksX6_personLine_2 11 rfl rfl)
theorem dX6_personLine_61 : decode cX6_personLine 61 = .ok (.lastore, 1) := dk_80 (dk_at dksX6_personLine_2 14 rfl rfl)
theorem dX6_personLine_62 : decode cX6_personLine 62 = .ok (.aload_n 0, 1) := dk_42 (dk_at dksX6_personLine_2 15 rfl rfl)
theorem dX6_personLine_63 : decode cX6_personLine 63 = .ok (.getfield 45, 3) := dk_180 0 45 (dk_at dksX6_personLine_2 16 rfl rfl)
theorem dX6_personLine_66 : decode cX6_personLine 66 = .ok (.bipush 6, 2) := dk_16 6 (dk_at dksX6_personLine_2 19 rfl rfl)
theorem dX6_personLine_68 : decode cX6_personLine 68 = .ok (.aload_n 0, 1) := dk_42 (dk_at dksX6_personLine_2 21 rfl rfl)
theorem dX6_personLine_69 : decode cX6_personLine 69 = .ok (.getfield 192, 3) := dk_180 0 192 (dk_at dksX6_personLine_3 0 rfl rfl)
theorem dX6_personLine_72 : decode cX6_personLine 72 = .ok (.iadd, 1) := dk_96 (dk_at dksX6_personLine_3 3 rfl rfl)
theorem dX6_personLine_73 : decode cX6_personLine 73 = .ok (.ldc2_w 273, 3) := dk_20 1 17 (dk_at dksX6_personLine_3 4 rfl rfl)
theorem dX6_personLine_76 : decode cX6_personLine 76 = .ok (.lastore, 1) := dk_80 (dk_at dksX6_personLine_3 7 rfl rfl)
theorem dX6_personLine_77 : decode cX6_personLine 77 = .ok (.aload_n 0, 1) := dk_42 (dk_at dksX6_personLine_3 8 rfl rfl)
theorem dX6_personLine_78 : decode cX6_personLine 78 = .ok (.bipush 9, 2) := dk_16 9 (dk_at dksX6_personLine_3 9 rfl rfl)
theorem dX6_personLine_80 : decode cX6_personLine 80 = .ok (.invokevirtual 183, 3) := dk_182 0 183 (dk_at dksX6_personLine_3 11 rfl rfl)
theorem dX6_personLine_83 : decode cX6_personLine 83 = .ok (.ifCond .eq 36, 3) := dk_153 0 36 (dk_at dksX6_personLine_3 14 rfl rfl)
theorem dX6_personLine_86 : decode cX6_personLine 86 = .ok (.aload_n 0, 1) := dk_42 (dk_at dksX6_personLine_3 17 rfl rfl)
theorem dX6_personLine_87 : decode cX6_personLine 87 = .ok (.invokevirtual 173, 3) := dk_182 0 173 (dk_at dksX6_personLine_3 18 rfl rfl)
theorem dX6_personLine_90 : decode cX6_personLine 90 = .ok (.aload_n 0, 1) := dk_42 (dk_at dksX6_personLine_3 21 rfl rfl)
theorem dX6_personLine_91 : decode cX6_personLine 91 = .ok (.aload_n 0, 1) := dk_42 (dk_at dksX6_personLine_3 22 rfl rfl)
theorem dX6_personLine_92 : decode cX6_personLine 92 = .ok (.getfield 279, 3) := dk_180 1 23 (dk_at dksX6_personLine_4 0 rfl rfl)
theorem dX6_personLine_95 : decode cX6_personLine 95 = .ok (.invokevirtual 283, 3) := dk_182 1 27 (dk_at dksX6_personLine_4 3 rfl rfl)
theorem dX6_personLine_98 : decode cX6_personLine 98 = .ok (.ifCond .ne 5, 3) := dk_154 0 5 (dk_at dksX6_personLine_4 6 rfl rfl)
theorem dX6_personLine_101 : decode cX6_personLine 101 = .ok (.iconst 0, 1) := dk_3 (dk_at dksX6_personLine_4 9 rfl rfl)
theorem dX6_personLine_102 : decode cX6_personLine 102 = .ok (.ireturn, 1) := dk_172 (dk_at dksX6_personLine_4 10 rfl rfl)
theorem dX6_personLine_103 : decode cX6_personLine 103 = .ok (.aload_n 0, 1) := dk_42 (dk_at dksX6_personLine_4 11 rfl rfl)
theorem dX6_personLine_104 : decode cX6_personLine 104 = .ok (.getfield 45, 3) := dk_180 0 45 (dk_at dksX6_personLine_4 12 rfl rfl)
theorem dX6_personLine_107 : decode cX6_personLine 107 = .ok (.bipush 6, 2) := dk_16 6 (dk_at dksX6_personLine_4 15 rfl rfl)
theorem dX6_personLine_109 : decode cX6_personLine 109 = .ok (.aload_n 0, 1) := dk_42 (dk_at dksX6_personLine_4 17 rfl rfl)
theorem dX6_personLine_110 : decode cX6_personLine 110 = .ok (.getfield 192, 3) := dk_180 0 192 (dk_at dksX6_personLine_4 18 rfl rfl)
theorem dX6_personLine_113 : decode cX6_personLine 113 = .ok (.iadd, 1) := dk_96 (dk_at dksX6_personLine_4 21 rfl rfl)
theorem dX6_personLine_114 : decode cX6_personLine 114 = .ok (.aload_n 0, 1) := dk_42 (dk_at dksX6_personLine_4 22 rfl rfl)
theorem dX6_personLine_115 : decode cX6_personLine 115 = .ok (.getfield 279, 3) := dk_180 1 23 (dk_at dksX6_personLine_5 0 rfl rfl)
theorem dX6_personLine_118 : decode cX6_personLine 118 = .ok (.lastore, 1) := dk_80 (dk_at dksX6_personLine_5 3 rfl rfl)
theorem dX6_personLine_119 : decode cX6_personLine 119 = .ok (.aload_n 0, 1) := dk_42 (dk_at dksX6_personLine_5 4 rfl rfl)
theorem dX6_personLine_120 : decode cX6_personLine 120 = .ok (.dup, 1) := dk_89 (dk_at dksX6_personLine_5 5 rfl rfl)
theorem dX6_personLine_121 : decode cX6_personLine 121 = .ok (.getfield 192, 3) := dk_180 0 192 (dk_at dksX6_personLine_5 6 rfl rfl)
theorem dX6_personLine_124 : decode cX6_personLine 124 = .ok (.iconst 1, 1) := dk_4 (dk_at dksX6_personLine_5 9 rfl rfl)
theorem dX6_personLine_125 : decode cX6_personLine 125 = .ok (.iadd, 1) := dk_96 (dk_at dksX6_personLine_5 10 rfl rfl)
theorem dX6_personLine_126 : decode cX6_personLine 126 = .ok (.putfield 192, 3) := dk_181 0 192 (dk_at dksX6_personLine_5 11 rfl rfl)
theorem dX6_personLine_129 : decode cX6_personLine 129 = .ok (.iconst 1, 1) := dk_4 (dk_at dksX6_personLine_5 14 rfl rfl)
theorem dX6_personLine_130 : decode cX6_personLine 130 = .ok (.ireturn, 1) := dk_172 (dk_at dksX6_personLine_5 15 rfl rfl)
abbrev cX6_dateRead : ByteArray := prog_20_method_32_code
def yX6_dateRead : MethodName := ⟨RX6, "dateRead", "(J)Z"⟩
def dkwX6_dateRead_4 : List UInt8 := [4, 172]
abbrev dktX6_dateRead_4 : List UInt8 := dkwX6_dateRead_4 ++ []
def dkwX6_dateRead_3 : List UInt8 := [155, 0, 12, 42, 180, 1, 23, 31, 148, 156, 0, 15, 42, 21, 4, 181, 0, 130, 42, 8, 182, 0, 163, 172]
abbrev dktX6_dateRead_3 : List UInt8 := dkwX6_dateRead_3 ++ dktX6_dateRead_4
def dkwX6_dateRead_2 : List UInt8 := [167, 0, 15, 42, 7, 29, 133, 42, 180, 0, 170, 133, 182, 1, 19, 181, 1, 23, 42, 180, 1, 23, 9, 148]
abbrev dktX6_dateRead_2 : List UInt8 := dkwX6_dateRead_2 ++ dktX6_dateRead_3
def dkwX6_dateRead_1 : List UInt8 := [3, 18, 159, 182, 0, 179, 154, 0, 5, 3, 172, 42, 42, 180, 0, 186, 154, 0, 9, 20, 1, 17]
abbrev dktX6_dateRead_1 : List UInt8 := dkwX6_dateRead_1 ++ dktX6_dateRead_2
def dkwX6_dateRead_0 : List UInt8 := [42, 3, 18, 159, 182, 0, 179, 154, 0, 5, 3, 172, 42, 180, 0, 170, 62, 42, 180, 0, 130, 54, 4, 42]
abbrev dktX6_dateRead_0 : List UInt8 := dkwX6_dateRead_0 ++ dktX6_dateRead_1
theorem dksX6_dateRead_0 : cX6_dateRead.data.toList.drop 0 = dktX6_dateRead_0 := by decide +kernel
theorem dksX6_dateRead_1 : cX6_dateRead.data.toList.drop 24 = dktX6_dateRead_1 := dk_seg dksX6_dateRead_0 24 rfl rfl
theorem dksX6_dateRead_2 : cX6_dateRead.data.toList.drop 46 = dktX6_dateRead_2 := dk_seg dksX6_dateRead_1 22 rfl rfl
theorem dksX6_dateRead_3 : cX6_dateRead.data.toList.drop 70 = dktX6_dateRead_3 := dk_seg dksX6_dateRead_2 24 rfl rfl
theorem dksX6_dateRead_4 : cX6_dateRead.data.toList.drop 94 = dktX6_dateRead_4 := dk_seg dksX6_dateRead_3 24 rfl rfl
theorem dX6_dateRead_0 : decode cX6_dateRead 0 = .ok (.aload_n 0, 1) := dk_42 (dk_at dksX6_dateRead_0 0 rfl rfl)
theorem dX6_dateRead_1 : decode cX6_dateRead 1 = .ok (.iconst 0, 1) := dk_3 (dk_at dksX6_dateRead_0 1 rfl rfl)
theorem dX6_dateRead_2 : decode cX6_dateRead 2 = .ok (.ldc 159, 2) := dk_18 159 (dk_at dksX6_dateRead_0 2 rfl rfl)
theorem dX6_dateRead_4 : decode cX6_dateRead 4 = .ok (.invokevirtual 179, 3) := dk_182 0 179 (dk_at dksX6_dateRead_0 4 rfl rfl)
theorem dX6_dateRead_7 : decode cX6_dateRead 7 = .ok (.ifCond .ne 5, 3) := dk_154 0 5 (dk_at dksX6_dateRead_0 7 rfl rfl)
theorem dX6_dateRead_10 : decode cX6_dateRead 10 = .ok (.iconst 0, 1) := dk_3 (dk_at dksX6_dateRead_0 10 rfl rfl)
theorem dX6_dateRead_11 : decode cX6_dateRead 11 = .ok (.ireturn, 1) := dk_172 (dk_at dksX6_dateRead_0 11 rfl rfl)
theorem dX6_dateRead_12 : decode cX6_dateRead 12 = .ok (.aload_n 0, 1) := dk_42 (dk_at dksX6_dateRead_0 12 rfl rfl)
theorem dX6_dateRead_13 : decode cX6_dateRead 13 = .ok (.getfield 170, 3) := dk_180 0 170 (dk_at dksX6_dateRead_0 13 rfl rfl)
theorem dX6_dateRead_16 : decode cX6_dateRead 16 = .ok (.istore_n 3, 1) := dk_62 (dk_at dksX6_dateRead_0 16 rfl rfl)
theorem dX6_dateRead_17 : decode cX6_dateRead 17 = .ok (.aload_n 0, 1) := dk_42 (dk_at dksX6_dateRead_0 17 rfl rfl)
theorem dX6_dateRead_18 : decode cX6_dateRead 18 = .ok (.getfield 130, 3) := dk_180 0 130 (dk_at dksX6_dateRead_0 18 rfl rfl)
theorem dX6_dateRead_21 : decode cX6_dateRead 21 = .ok (.istore 4, 2) := dk_54 4 (dk_at dksX6_dateRead_0 21 rfl rfl)
theorem dX6_dateRead_23 : decode cX6_dateRead 23 = .ok (.aload_n 0, 1) := dk_42 (dk_at dksX6_dateRead_0 23 rfl rfl)
theorem dX6_dateRead_24 : decode cX6_dateRead 24 = .ok (.iconst 0, 1) := dk_3 (dk_at dksX6_dateRead_1 0 rfl rfl)
theorem dX6_dateRead_25 : decode cX6_dateRead 25 = .ok (.ldc 159, 2) := dk_18 159 (dk_at dksX6_dateRead_1 1 rfl rfl)
theorem dX6_dateRead_27 : decode cX6_dateRead 27 = .ok (.invokevirtual 179, 3) := dk_182 0 179 (dk_at dksX6_dateRead_1 3 rfl rfl)
theorem dX6_dateRead_30 : decode cX6_dateRead 30 = .ok (.ifCond .ne 5, 3) := dk_154 0 5 (dk_at dksX6_dateRead_1 6 rfl rfl)
theorem dX6_dateRead_33 : decode cX6_dateRead 33 = .ok (.iconst 0, 1) := dk_3 (dk_at dksX6_dateRead_1 9 rfl rfl)
theorem dX6_dateRead_34 : decode cX6_dateRead 34 = .ok (.ireturn, 1) := dk_172 (dk_at dksX6_dateRead_1 10 rfl rfl)
theorem dX6_dateRead_35 : decode cX6_dateRead 35 = .ok (.aload_n 0, 1) := dk_42 (dk_at dksX6_dateRead_1 11 rfl rfl)
theorem dX6_dateRead_36 : decode cX6_dateRead 36 = .ok (.aload_n 0, 1) := dk_42 (dk_at dksX6_dateRead_1 12 rfl rfl)
theorem dX6_dateRead_37 : decode cX6_dateRead 37 = .ok (.getfield 186, 3) := dk_180 0 186 (dk_at dksX6_dateRead_1 13 rfl rfl)
theorem dX6_dateRead_40 : decode cX6_dateRead 40 = .ok (.ifCond .ne 9, 3) := dk_154 0 9 (dk_at dksX6_dateRead_1 16 rfl rfl)
theorem dX6_dateRead_43 : decode cX6_dateRead 43 = .ok (.ldc2_w 273, 3) := dk_20 1 17 (dk_at dksX6_dateRead_1 19 rfl rfl)
theorem dX6_dateRead_46 : decode cX6_dateRead 46 = .ok (.goto 15, 3) := dk_167 0 15 (dk_at dksX6_dateRead_2 0 rfl rfl)
theorem dX6_dateRead_49 : decode cX6_dateRead 49 = .ok (.aload_n 0, 1) := dk_42 (dk_at dksX6_dateRead_2 3 rfl rfl)
theorem dX6_dateRead_50 : decode cX6_dateRead 50 = .ok (.iconst 4, 1) := dk_7 (dk_at dksX6_dateRead_2 4 rfl rfl)
theorem dX6_dateRead_51 : decode cX6_dateRead 51 = .ok (.iload_n 3, 1) := dk_29 (dk_at dksX6_dateRead_2 5 rfl rfl)
theorem dX6_dateRead_52 : decode cX6_dateRead 52 = .ok (.i2l, 1) := dk_133 (dk_at dksX6_dateRead_2 6 rfl rfl)
theorem dX6_dateRead_53 : decode cX6_dateRead 53 = .ok (.aload_n 0, 1) := dk_42 (dk_at dksX6_dateRead_2 7 rfl rfl)
theorem dX6_dateRead_54 : decode cX6_dateRead 54 = .ok (.getfield 170, 3) := dk_180 0 170 (dk_at dksX6_dateRead_2 8 rfl rfl)
theorem dX6_dateRead_57 : decode cX6_dateRead 57 = .ok (.i2l, 1) := dk_133 (dk_at dksX6_dateRead_2 11 rfl rfl)
theorem dX6_dateRead_58 : decode cX6_dateRead 58 = .ok (.invokevirtual 275, 3) := dk_182 1 19 (dk_at dksX6_dateRead_2 12 rfl rfl)
theorem dX6_dateRead_61 : decode cX6_dateRead 61 = .ok (.putfield 279, 3) := dk_181 1 23 (dk_at dksX6_dateRead_2 15 rfl rfl)
theorem dX6_dateRead_64 : decode cX6_dateRead 64 = .ok (.aload_n 0, 1) := dk_42 (dk_at dksX6_dateRead_2 18 rfl rfl)
theorem dX6_dateRead_65 : decode cX6_dateRead 65 = .ok (.getfield 279, 3) := dk_180 1 23 (dk_at dksX6_dateRead_2 19 rfl rfl)
theorem dX6_dateRead_68 : decode cX6_dateRead 68 = .ok (.lconst 0, 1) := dk_9 (dk_at dksX6_dateRead_2 22 rfl rfl)
theorem dX6_dateRead_69 : decode cX6_dateRead 69 = .ok (.lcmp, 1) := dk_148 (dk_at dksX6_dateRead_2 23 rfl rfl)
theorem dX6_dateRead_70 : decode cX6_dateRead 70 = .ok (.ifCond .lt 12, 3) := dk_155 0 12 (dk_at dksX6_dateRead_3 0 rfl rfl)
theorem dX6_dateRead_73 : decode cX6_dateRead 73 = .ok (.aload_n 0, 1) := dk_42 (dk_at dksX6_dateRead_3 3 rfl rfl)
theorem dX6_dateRead_74 : decode cX6_dateRead 74 = .ok (.getfield 279, 3) := dk_180 1 23 (dk_at dksX6_dateRead_3 4 rfl rfl)
theorem dX6_dateRead_77 : decode cX6_dateRead 77 = .ok (.lload_n 1, 1) := dk_31 (dk_at dksX6_dateRead_3 7 rfl rfl)
theorem dX6_dateRead_78 : decode cX6_dateRead 78 = .ok (.lcmp, 1) := dk_148 (dk_at dksX6_dateRead_3 8 rfl rfl)
theorem dX6_dateRead_79 : decode cX6_dateRead 79 = .ok (.ifCond .ge 15, 3) := dk_156 0 15 (dk_at dksX6_dateRead_3 9 rfl rfl)
theorem dX6_dateRead_82 : decode cX6_dateRead 82 = .ok (.aload_n 0, 1) := dk_42 (dk_at dksX6_dateRead_3 12 rfl rfl)
theorem dX6_dateRead_83 : decode cX6_dateRead 83 = .ok (.iload 4, 2) := dk_21 4 (dk_at dksX6_dateRead_3 13 rfl rfl)
theorem dX6_dateRead_85 : decode cX6_dateRead 85 = .ok (.putfield 130, 3) := dk_181 0 130 (dk_at dksX6_dateRead_3 15 rfl rfl)
theorem dX6_dateRead_88 : decode cX6_dateRead 88 = .ok (.aload_n 0, 1) := dk_42 (dk_at dksX6_dateRead_3 18 rfl rfl)
theorem dX6_dateRead_89 : decode cX6_dateRead 89 = .ok (.iconst 5, 1) := dk_8 (dk_at dksX6_dateRead_3 19 rfl rfl)
theorem dX6_dateRead_90 : decode cX6_dateRead 90 = .ok (.invokevirtual 163, 3) := dk_182 0 163 (dk_at dksX6_dateRead_3 20 rfl rfl)
theorem dX6_dateRead_93 : decode cX6_dateRead 93 = .ok (.ireturn, 1) := dk_172 (dk_at dksX6_dateRead_3 23 rfl rfl)
theorem dX6_dateRead_94 : decode cX6_dateRead 94 = .ok (.iconst 1, 1) := dk_4 (dk_at dksX6_dateRead_4 0 rfl rfl)
theorem dX6_dateRead_95 : decode cX6_dateRead 95 = .ok (.ireturn, 1) := dk_172 (dk_at dksX6_dateRead_4 1 rfl rfl)
abbrev cX6_countOf : ByteArray := prog_20_method_56_code
def yX6_countOf : MethodName := ⟨RX6, "countOf", "(IJJ)J"⟩
def dkwX6_countOf_2 : List UInt8 := [20, 0, 125, 148, 158, 0, 9, 20, 1, 17, 167, 0, 5, 22, 6, 173]
abbrev dktX6_countOf_2 : List UInt8 := dkwX6_countOf_2 ++ []
def dkwX6_countOf_1 : List UInt8 := [148, 158, 0, 7, 20, 1, 17, 173, 42, 27, 32, 182, 1, 133, 22, 4, 97, 10, 101, 55, 6, 22, 6]
abbrev dktX6_countOf_1 : List UInt8 := dkwX6_countOf_1 ++ dktX6_countOf_2
def dkwX6_countOf_0 : List UInt8 := [42, 27, 32, 182, 1, 129, 153, 0, 22, 22, 4, 10, 148, 155, 0, 15, 22, 4, 42, 27, 32, 182, 1, 119]
abbrev dktX6_countOf_0 : List UInt8 := dkwX6_countOf_0 ++ dktX6_countOf_1
theorem dksX6_countOf_0 : cX6_countOf.data.toList.drop 0 = dktX6_countOf_0 := by decide +kernel
theorem dksX6_countOf_1 : cX6_countOf.data.toList.drop 24 = dktX6_countOf_1 := dk_seg dksX6_countOf_0 24 rfl rfl
theorem dksX6_countOf_2 : cX6_countOf.data.toList.drop 47 = dktX6_countOf_2 := dk_seg dksX6_countOf_1 23 rfl rfl
theorem dX6_countOf_0 : decode cX6_countOf 0 = .ok (.aload_n 0, 1) := dk_42 (dk_at dksX6_countOf_0 0 rfl rfl)
theorem dX6_countOf_1 : decode cX6_countOf 1 = .ok (.iload_n 1, 1) := dk_27 (dk_at dksX6_countOf_0 1 rfl rfl)
theorem dX6_countOf_2 : decode cX6_countOf 2 = .ok (.lload_n 2, 1) := dk_32 (dk_at dksX6_countOf_0 2 rfl rfl)
theorem dX6_countOf_3 : decode cX6_countOf 3 = .ok (.invokevirtual 385, 3) := dk_182 1 129 (dk_at dksX6_countOf_0 3 rfl rfl)
theorem dX6_countOf_6 : decode cX6_countOf 6 = .ok (.ifCond .eq 22, 3) := dk_153 0 22 (dk_at dksX6_countOf_0 6 rfl rfl)
theorem dX6_countOf_9 : decode cX6_countOf 9 = .ok (.lload 4, 2) := dk_22 4 (dk_at dksX6_countOf_0 9 rfl rfl)
theorem dX6_countOf_11 : decode cX6_countOf 11 = .ok (.lconst 1, 1) := dk_10 (dk_at dksX6_countOf_0 11 rfl rfl)
theorem dX6_countOf_12 : decode cX6_countOf 12 = .ok (.lcmp, 1) := dk_148 (dk_at dksX6_countOf_0 12 rfl rfl)
theorem dX6_countOf_13 : decode cX6_countOf 13 = .ok (.ifCond .lt 15, 3) := dk_155 0 15 (dk_at dksX6_countOf_0 13 rfl rfl)
theorem dX6_countOf_16 : decode cX6_countOf 16 = .ok (.lload 4, 2) := dk_22 4 (dk_at dksX6_countOf_0 16 rfl rfl)
theorem dX6_countOf_18 : decode cX6_countOf 18 = .ok (.aload_n 0, 1) := dk_42 (dk_at dksX6_countOf_0 18 rfl rfl)
theorem dX6_countOf_19 : decode cX6_countOf 19 = .ok (.iload_n 1, 1) := dk_27 (dk_at dksX6_countOf_0 19 rfl rfl)
theorem dX6_countOf_20 : decode cX6_countOf 20 = .ok (.lload_n 2, 1) := dk_32 (dk_at dksX6_countOf_0 20 rfl rfl)
theorem dX6_countOf_21 : decode cX6_countOf 21 = .ok (.invokevirtual 375, 3) := dk_182 1 119 (dk_at dksX6_countOf_0 21 rfl rfl)
theorem dX6_countOf_24 : decode cX6_countOf 24 = .ok (.lcmp, 1) := dk_148 (dk_at dksX6_countOf_1 0 rfl rfl)
theorem dX6_countOf_25 : decode cX6_countOf 25 = .ok (.ifCond .le 7, 3) := dk_158 0 7 (dk_at dksX6_countOf_1 1 rfl rfl)
theorem dX6_countOf_28 : decode cX6_countOf 28 = .ok (.ldc2_w 273, 3) := dk_20 1 17 (dk_at dksX6_countOf_1 4 rfl rfl)
theorem dX6_countOf_31 : decode cX6_countOf 31 = .ok (.lreturn, 1) := dk_173 (dk_at dksX6_countOf_1 7 rfl rfl)
theorem dX6_countOf_32 : decode cX6_countOf 32 = .ok (.aload_n 0, 1) := dk_42 (dk_at dksX6_countOf_1 8 rfl rfl)
theorem dX6_countOf_33 : decode cX6_countOf 33 = .ok (.iload_n 1, 1) := dk_27 (dk_at dksX6_countOf_1 9 rfl rfl)
theorem dX6_countOf_34 : decode cX6_countOf 34 = .ok (.lload_n 2, 1) := dk_32 (dk_at dksX6_countOf_1 10 rfl rfl)
theorem dX6_countOf_35 : decode cX6_countOf 35 = .ok (.invokevirtual 389, 3) := dk_182 1 133 (dk_at dksX6_countOf_1 11 rfl rfl)
theorem dX6_countOf_38 : decode cX6_countOf 38 = .ok (.lload 4, 2) := dk_22 4 (dk_at dksX6_countOf_1 14 rfl rfl)
theorem dX6_countOf_40 : decode cX6_countOf 40 = .ok (.ladd, 1) := dk_97 (dk_at dksX6_countOf_1 16 rfl rfl)
theorem dX6_countOf_41 : decode cX6_countOf 41 = .ok (.lconst 1, 1) := dk_10 (dk_at dksX6_countOf_1 17 rfl rfl)
theorem dX6_countOf_42 : decode cX6_countOf 42 = .ok (.lsub, 1) := dk_101 (dk_at dksX6_countOf_1 18 rfl rfl)
theorem dX6_countOf_43 : decode cX6_countOf 43 = .ok (.lstore 6, 2) := dk_55 6 (dk_at dksX6_countOf_1 19 rfl rfl)
theorem dX6_countOf_45 : decode cX6_countOf 45 = .ok (.lload 6, 2) := dk_22 6 (dk_at dksX6_countOf_1 21 rfl rfl)
theorem dX6_countOf_47 : decode cX6_countOf 47 = .ok (.ldc2_w 125, 3) := dk_20 0 125 (dk_at dksX6_countOf_2 0 rfl rfl)
theorem dX6_countOf_50 : decode cX6_countOf 50 = .ok (.lcmp, 1) := dk_148 (dk_at dksX6_countOf_2 3 rfl rfl)
theorem dX6_countOf_51 : decode cX6_countOf 51 = .ok (.ifCond .le 9, 3) := dk_158 0 9 (dk_at dksX6_countOf_2 4 rfl rfl)
theorem dX6_countOf_54 : decode cX6_countOf 54 = .ok (.ldc2_w 273, 3) := dk_20 1 17 (dk_at dksX6_countOf_2 7 rfl rfl)
theorem dX6_countOf_57 : decode cX6_countOf 57 = .ok (.goto 5, 3) := dk_167 0 5 (dk_at dksX6_countOf_2 10 rfl rfl)
theorem dX6_countOf_60 : decode cX6_countOf 60 = .ok (.lload 6, 2) := dk_22 6 (dk_at dksX6_countOf_2 13 rfl rfl)
theorem dX6_countOf_62 : decode cX6_countOf 62 = .ok (.lreturn, 1) := dk_173 (dk_at dksX6_countOf_2 15 rfl rfl)
abbrev cX6_isYear : ByteArray := prog_20_method_53_code
def yX6_isYear : MethodName := ⟨RX6, "isYear", "(IJ)Z"⟩
def dkwX6_isYear_0 : List UInt8 := [32, 10, 148, 155, 0, 18, 42, 27, 32, 182, 1, 119, 10, 148, 155, 0, 7, 4, 167, 0, 4, 3, 172]
abbrev dktX6_isYear_0 : List UInt8 := dkwX6_isYear_0 ++ []
theorem dksX6_isYear_0 : cX6_isYear.data.toList.drop 0 = dktX6_isYear_0 := by decide +kernel
theorem dX6_isYear_0 : decode cX6_isYear 0 = .ok (.lload_n 2, 1) := dk_32 (dk_at dksX6_isYear_0 0 rfl rfl)
theorem dX6_isYear_1 : decode cX6_isYear 1 = .ok (.lconst 1, 1) := dk_10 (dk_at dksX6_isYear_0 1 rfl rfl)
theorem dX6_isYear_2 : decode cX6_isYear 2 = .ok (.lcmp, 1) := dk_148 (dk_at dksX6_isYear_0 2 rfl rfl)
theorem dX6_isYear_3 : decode cX6_isYear 3 = .ok (.ifCond .lt 18, 3) := dk_155 0 18 (dk_at dksX6_isYear_0 3 rfl rfl)
theorem dX6_isYear_6 : decode cX6_isYear 6 = .ok (.aload_n 0, 1) := dk_42 (dk_at dksX6_isYear_0 6 rfl rfl)
theorem dX6_isYear_7 : decode cX6_isYear 7 = .ok (.iload_n 1, 1) := dk_27 (dk_at dksX6_isYear_0 7 rfl rfl)
theorem dX6_isYear_8 : decode cX6_isYear 8 = .ok (.lload_n 2, 1) := dk_32 (dk_at dksX6_isYear_0 8 rfl rfl)
theorem dX6_isYear_9 : decode cX6_isYear 9 = .ok (.invokevirtual 375, 3) := dk_182 1 119 (dk_at dksX6_isYear_0 9 rfl rfl)
theorem dX6_isYear_12 : decode cX6_isYear 12 = .ok (.lconst 1, 1) := dk_10 (dk_at dksX6_isYear_0 12 rfl rfl)
theorem dX6_isYear_13 : decode cX6_isYear 13 = .ok (.lcmp, 1) := dk_148 (dk_at dksX6_isYear_0 13 rfl rfl)
theorem dX6_isYear_14 : decode cX6_isYear 14 = .ok (.ifCond .lt 7, 3) := dk_155 0 7 (dk_at dksX6_isYear_0 14 rfl rfl)
theorem dX6_isYear_17 : decode cX6_isYear 17 = .ok (.iconst 1, 1) := dk_4 (dk_at dksX6_isYear_0 17 rfl rfl)
theorem dX6_isYear_18 : decode cX6_isYear 18 = .ok (.goto 4, 3) := dk_167 0 4 (dk_at dksX6_isYear_0 18 rfl rfl)
theorem dX6_isYear_21 : decode cX6_isYear 21 = .ok (.iconst 0, 1) := dk_3 (dk_at dksX6_isYear_0 21 rfl rfl)
theorem dX6_isYear_22 : decode cX6_isYear 22 = .ok (.ireturn, 1) := dk_172 (dk_at dksX6_isYear_0 22 rfl rfl)
abbrev cX6_lengthOf : ByteArray := prog_20_method_52_code
def yX6_lengthOf : MethodName := ⟨RX6, "lengthOf", "(IJ)J"⟩
def dkwX6_lengthOf_1 : List UInt8 := [97, 173]
abbrev dktX6_lengthOf_1 : List UInt8 := dkwX6_lengthOf_1 ++ []
def dkwX6_lengthOf_0 : List UInt8 := [42, 180, 0, 26, 6, 27, 104, 46, 133, 32, 10, 101, 42, 180, 0, 26, 6, 27, 104, 4, 96, 46, 133, 105]
abbrev dktX6_lengthOf_0 : List UInt8 := dkwX6_lengthOf_0 ++ dktX6_lengthOf_1
theorem dksX6_lengthOf_0 : cX6_lengthOf.data.toList.drop 0 = dktX6_lengthOf_0 := by decide +kernel
theorem dksX6_lengthOf_1 : cX6_lengthOf.data.toList.drop 24 = dktX6_lengthOf_1 := dk_seg dksX6_lengthOf_0 24 rfl rfl
theorem dX6_lengthOf_0 : decode cX6_lengthOf 0 = .ok (.aload_n 0, 1) := dk_42 (dk_at dksX6_lengthOf_0 0 rfl rfl)
theorem dX6_lengthOf_1 : decode cX6_lengthOf 1 = .ok (.getfield 26, 3) := dk_180 0 26 (dk_at dksX6_lengthOf_0 1 rfl rfl)
theorem dX6_lengthOf_4 : decode cX6_lengthOf 4 = .ok (.iconst 3, 1) := dk_6 (dk_at dksX6_lengthOf_0 4 rfl rfl)
theorem dX6_lengthOf_5 : decode cX6_lengthOf 5 = .ok (.iload_n 1, 1) := dk_27 (dk_at dksX6_lengthOf_0 5 rfl rfl)
theorem dX6_lengthOf_6 : decode cX6_lengthOf 6 = .ok (.imul, 1) := dk_104 (dk_at dksX6_lengthOf_0 6 rfl rfl)
theorem dX6_lengthOf_7 : decode cX6_lengthOf 7 = .ok (.iaload, 1) := dk_46 (dk_at dksX6_lengthOf_0 7 rfl rfl)
theorem dX6_lengthOf_8 : decode cX6_lengthOf 8 = .ok (.i2l, 1) := dk_133 (dk_at dksX6_lengthOf_0 8 rfl rfl)
theorem dX6_lengthOf_9 : decode cX6_lengthOf 9 = .ok (.lload_n 2, 1) := dk_32 (dk_at dksX6_lengthOf_0 9 rfl rfl)
theorem dX6_lengthOf_10 : decode cX6_lengthOf 10 = .ok (.lconst 1, 1) := dk_10 (dk_at dksX6_lengthOf_0 10 rfl rfl)
theorem dX6_lengthOf_11 : decode cX6_lengthOf 11 = .ok (.lsub, 1) := dk_101 (dk_at dksX6_lengthOf_0 11 rfl rfl)
theorem dX6_lengthOf_12 : decode cX6_lengthOf 12 = .ok (.aload_n 0, 1) := dk_42 (dk_at dksX6_lengthOf_0 12 rfl rfl)
theorem dX6_lengthOf_13 : decode cX6_lengthOf 13 = .ok (.getfield 26, 3) := dk_180 0 26 (dk_at dksX6_lengthOf_0 13 rfl rfl)
theorem dX6_lengthOf_16 : decode cX6_lengthOf 16 = .ok (.iconst 3, 1) := dk_6 (dk_at dksX6_lengthOf_0 16 rfl rfl)
theorem dX6_lengthOf_17 : decode cX6_lengthOf 17 = .ok (.iload_n 1, 1) := dk_27 (dk_at dksX6_lengthOf_0 17 rfl rfl)
theorem dX6_lengthOf_18 : decode cX6_lengthOf 18 = .ok (.imul, 1) := dk_104 (dk_at dksX6_lengthOf_0 18 rfl rfl)
theorem dX6_lengthOf_19 : decode cX6_lengthOf 19 = .ok (.iconst 1, 1) := dk_4 (dk_at dksX6_lengthOf_0 19 rfl rfl)
theorem dX6_lengthOf_20 : decode cX6_lengthOf 20 = .ok (.iadd, 1) := dk_96 (dk_at dksX6_lengthOf_0 20 rfl rfl)
theorem dX6_lengthOf_21 : decode cX6_lengthOf 21 = .ok (.iaload, 1) := dk_46 (dk_at dksX6_lengthOf_0 21 rfl rfl)
theorem dX6_lengthOf_22 : decode cX6_lengthOf 22 = .ok (.i2l, 1) := dk_133 (dk_at dksX6_lengthOf_0 22 rfl rfl)
theorem dX6_lengthOf_23 : decode cX6_lengthOf 23 = .ok (.lmul, 1) := dk_105 (dk_at dksX6_lengthOf_0 23 rfl rfl)
theorem dX6_lengthOf_24 : decode cX6_lengthOf 24 = .ok (.ladd, 1) := dk_97 (dk_at dksX6_lengthOf_1 0 rfl rfl)
theorem dX6_lengthOf_25 : decode cX6_lengthOf 25 = .ok (.lreturn, 1) := dk_173 (dk_at dksX6_lengthOf_1 1 rfl rfl)
abbrev cX6_beginOf : ByteArray := prog_20_method_54_code
def yX6_beginOf : MethodName := ⟨RX6, "beginOf", "(IJ)J"⟩
def dkwX6_beginOf_3 : List UInt8 := [109, 105, 97, 173]
abbrev dktX6_beginOf_3 : List UInt8 := dkwX6_beginOf_3 ++ []
def dkwX6_beginOf_2 : List UInt8 := [180, 0, 26, 6, 27, 104, 46, 133, 105, 97, 22, 4, 32, 10, 101, 32, 20, 1, 127, 101, 105, 20, 1, 127]
abbrev dktX6_beginOf_2 : List UInt8 := dkwX6_beginOf_2 ++ dktX6_beginOf_3
def dkwX6_beginOf_1 : List UInt8 := [148, 158, 0, 7, 20, 1, 125, 173, 42, 180, 0, 26, 6, 27, 104, 5, 96, 46, 133, 32, 10, 101, 42]
abbrev dktX6_beginOf_1 : List UInt8 := dkwX6_beginOf_1 ++ dktX6_beginOf_2
def dkwX6_beginOf_0 : List UInt8 := [42, 180, 0, 26, 6, 27, 104, 4, 96, 46, 133, 55, 4, 22, 4, 9, 148, 158, 0, 15, 32, 20, 1, 123]
abbrev dktX6_beginOf_0 : List UInt8 := dkwX6_beginOf_0 ++ dktX6_beginOf_1
theorem dksX6_beginOf_0 : cX6_beginOf.data.toList.drop 0 = dktX6_beginOf_0 := by decide +kernel
theorem dksX6_beginOf_1 : cX6_beginOf.data.toList.drop 24 = dktX6_beginOf_1 := dk_seg dksX6_beginOf_0 24 rfl rfl
theorem dksX6_beginOf_2 : cX6_beginOf.data.toList.drop 47 = dktX6_beginOf_2 := dk_seg dksX6_beginOf_1 23 rfl rfl
theorem dksX6_beginOf_3 : cX6_beginOf.data.toList.drop 71 = dktX6_beginOf_3 := dk_seg dksX6_beginOf_2 24 rfl rfl
theorem dX6_beginOf_0 : decode cX6_beginOf 0 = .ok (.aload_n 0, 1) := dk_42 (dk_at dksX6_beginOf_0 0 rfl rfl)
theorem dX6_beginOf_1 : decode cX6_beginOf 1 = .ok (.getfield 26, 3) := dk_180 0 26 (dk_at dksX6_beginOf_0 1 rfl rfl)
theorem dX6_beginOf_4 : decode cX6_beginOf 4 = .ok (.iconst 3, 1) := dk_6 (dk_at dksX6_beginOf_0 4 rfl rfl)
theorem dX6_beginOf_5 : decode cX6_beginOf 5 = .ok (.iload_n 1, 1) := dk_27 (dk_at dksX6_beginOf_0 5 rfl rfl)
theorem dX6_beginOf_6 : decode cX6_beginOf 6 = .ok (.imul, 1) := dk_104 (dk_at dksX6_beginOf_0 6 rfl rfl)
theorem dX6_beginOf_7 : decode cX6_beginOf 7 = .ok (.iconst 1, 1) := dk_4 (dk_at dksX6_beginOf_0 7 rfl rfl)
theorem dX6_beginOf_8 : decode cX6_beginOf 8 = .ok (.iadd, 1) := dk_96 (dk_at dksX6_beginOf_0 8 rfl rfl)
theorem dX6_beginOf_9 : decode cX6_beginOf 9 = .ok (.iaload, 1) := dk_46 (dk_at dksX6_beginOf_0 9 rfl rfl)
theorem dX6_beginOf_10 : decode cX6_beginOf 10 = .ok (.i2l, 1) := dk_133 (dk_at dksX6_beginOf_0 10 rfl rfl)
theorem dX6_beginOf_11 : decode cX6_beginOf 11 = .ok (.lstore 4, 2) := dk_55 4 (dk_at dksX6_beginOf_0 11 rfl rfl)
theorem dX6_beginOf_13 : decode cX6_beginOf 13 = .ok (.lload 4, 2) := dk_22 4 (dk_at dksX6_beginOf_0 13 rfl rfl)
theorem dX6_beginOf_15 : decode cX6_beginOf 15 = .ok (.lconst 0, 1) := dk_9 (dk_at dksX6_beginOf_0 15 rfl rfl)
theorem dX6_beginOf_16 : decode cX6_beginOf 16 = .ok (.lcmp, 1) := dk_148 (dk_at dksX6_beginOf_0 16 rfl rfl)
theorem dX6_beginOf_17 : decode cX6_beginOf 17 = .ok (.ifCond .le 15, 3) := dk_158 0 15 (dk_at dksX6_beginOf_0 17 rfl rfl)
theorem dX6_beginOf_20 : decode cX6_beginOf 20 = .ok (.lload_n 2, 1) := dk_32 (dk_at dksX6_beginOf_0 20 rfl rfl)
theorem dX6_beginOf_21 : decode cX6_beginOf 21 = .ok (.ldc2_w 379, 3) := dk_20 1 123 (dk_at dksX6_beginOf_0 21 rfl rfl)
theorem dX6_beginOf_24 : decode cX6_beginOf 24 = .ok (.lcmp, 1) := dk_148 (dk_at dksX6_beginOf_1 0 rfl rfl)
theorem dX6_beginOf_25 : decode cX6_beginOf 25 = .ok (.ifCond .le 7, 3) := dk_158 0 7 (dk_at dksX6_beginOf_1 1 rfl rfl)
theorem dX6_beginOf_28 : decode cX6_beginOf 28 = .ok (.ldc2_w 381, 3) := dk_20 1 125 (dk_at dksX6_beginOf_1 4 rfl rfl)
theorem dX6_beginOf_31 : decode cX6_beginOf 31 = .ok (.lreturn, 1) := dk_173 (dk_at dksX6_beginOf_1 7 rfl rfl)
theorem dX6_beginOf_32 : decode cX6_beginOf 32 = .ok (.aload_n 0, 1) := dk_42 (dk_at dksX6_beginOf_1 8 rfl rfl)
theorem dX6_beginOf_33 : decode cX6_beginOf 33 = .ok (.getfield 26, 3) := dk_180 0 26 (dk_at dksX6_beginOf_1 9 rfl rfl)
theorem dX6_beginOf_36 : decode cX6_beginOf 36 = .ok (.iconst 3, 1) := dk_6 (dk_at dksX6_beginOf_1 12 rfl rfl)
theorem dX6_beginOf_37 : decode cX6_beginOf 37 = .ok (.iload_n 1, 1) := dk_27 (dk_at dksX6_beginOf_1 13 rfl rfl)
theorem dX6_beginOf_38 : decode cX6_beginOf 38 = .ok (.imul, 1) := dk_104 (dk_at dksX6_beginOf_1 14 rfl rfl)
theorem dX6_beginOf_39 : decode cX6_beginOf 39 = .ok (.iconst 2, 1) := dk_5 (dk_at dksX6_beginOf_1 15 rfl rfl)
theorem dX6_beginOf_40 : decode cX6_beginOf 40 = .ok (.iadd, 1) := dk_96 (dk_at dksX6_beginOf_1 16 rfl rfl)
theorem dX6_beginOf_41 : decode cX6_beginOf 41 = .ok (.iaload, 1) := dk_46 (dk_at dksX6_beginOf_1 17 rfl rfl)
theorem dX6_beginOf_42 : decode cX6_beginOf 42 = .ok (.i2l, 1) := dk_133 (dk_at dksX6_beginOf_1 18 rfl rfl)
theorem dX6_beginOf_43 : decode cX6_beginOf 43 = .ok (.lload_n 2, 1) := dk_32 (dk_at dksX6_beginOf_1 19 rfl rfl)
theorem dX6_beginOf_44 : decode cX6_beginOf 44 = .ok (.lconst 1, 1) := dk_10 (dk_at dksX6_beginOf_1 20 rfl rfl)
theorem dX6_beginOf_45 : decode cX6_beginOf 45 = .ok (.lsub, 1) := dk_101 (dk_at dksX6_beginOf_1 21 rfl rfl)
theorem dX6_beginOf_46 : decode cX6_beginOf 46 = .ok (.aload_n 0, 1) := dk_42 (dk_at dksX6_beginOf_1 22 rfl rfl)
theorem dX6_beginOf_47 : decode cX6_beginOf 47 = .ok (.getfield 26, 3) := dk_180 0 26 (dk_at dksX6_beginOf_2 0 rfl rfl)
theorem dX6_beginOf_50 : decode cX6_beginOf 50 = .ok (.iconst 3, 1) := dk_6 (dk_at dksX6_beginOf_2 3 rfl rfl)
theorem dX6_beginOf_51 : decode cX6_beginOf 51 = .ok (.iload_n 1, 1) := dk_27 (dk_at dksX6_beginOf_2 4 rfl rfl)
theorem dX6_beginOf_52 : decode cX6_beginOf 52 = .ok (.imul, 1) := dk_104 (dk_at dksX6_beginOf_2 5 rfl rfl)
theorem dX6_beginOf_53 : decode cX6_beginOf 53 = .ok (.iaload, 1) := dk_46 (dk_at dksX6_beginOf_2 6 rfl rfl)
theorem dX6_beginOf_54 : decode cX6_beginOf 54 = .ok (.i2l, 1) := dk_133 (dk_at dksX6_beginOf_2 7 rfl rfl)
theorem dX6_beginOf_55 : decode cX6_beginOf 55 = .ok (.lmul, 1) := dk_105 (dk_at dksX6_beginOf_2 8 rfl rfl)
theorem dX6_beginOf_56 : decode cX6_beginOf 56 = .ok (.ladd, 1) := dk_97 (dk_at dksX6_beginOf_2 9 rfl rfl)
theorem dX6_beginOf_57 : decode cX6_beginOf 57 = .ok (.lload 4, 2) := dk_22 4 (dk_at dksX6_beginOf_2 10 rfl rfl)
theorem dX6_beginOf_59 : decode cX6_beginOf 59 = .ok (.lload_n 2, 1) := dk_32 (dk_at dksX6_beginOf_2 12 rfl rfl)
theorem dX6_beginOf_60 : decode cX6_beginOf 60 = .ok (.lconst 1, 1) := dk_10 (dk_at dksX6_beginOf_2 13 rfl rfl)
theorem dX6_beginOf_61 : decode cX6_beginOf 61 = .ok (.lsub, 1) := dk_101 (dk_at dksX6_beginOf_2 14 rfl rfl)
theorem dX6_beginOf_62 : decode cX6_beginOf 62 = .ok (.lload_n 2, 1) := dk_32 (dk_at dksX6_beginOf_2 15 rfl rfl)
theorem dX6_beginOf_63 : decode cX6_beginOf 63 = .ok (.ldc2_w 383, 3) := dk_20 1 127 (dk_at dksX6_beginOf_2 16 rfl rfl)
theorem dX6_beginOf_66 : decode cX6_beginOf 66 = .ok (.lsub, 1) := dk_101 (dk_at dksX6_beginOf_2 19 rfl rfl)
theorem dX6_beginOf_67 : decode cX6_beginOf 67 = .ok (.lmul, 1) := dk_105 (dk_at dksX6_beginOf_2 20 rfl rfl)
theorem dX6_beginOf_68 : decode cX6_beginOf 68 = .ok (.ldc2_w 383, 3) := dk_20 1 127 (dk_at dksX6_beginOf_2 21 rfl rfl)
theorem dX6_beginOf_71 : decode cX6_beginOf 71 = .ok (.ldiv, 1) := dk_109 (dk_at dksX6_beginOf_3 0 rfl rfl)
theorem dX6_beginOf_72 : decode cX6_beginOf 72 = .ok (.lmul, 1) := dk_105 (dk_at dksX6_beginOf_3 1 rfl rfl)
theorem dX6_beginOf_73 : decode cX6_beginOf 73 = .ok (.ladd, 1) := dk_97 (dk_at dksX6_beginOf_3 2 rfl rfl)
theorem dX6_beginOf_74 : decode cX6_beginOf 74 = .ok (.lreturn, 1) := dk_173 (dk_at dksX6_beginOf_3 3 rfl rfl)
abbrev cX6_deedLine : ByteArray := prog_20_method_34_code
def yX6_deedLine : MethodName := ⟨RX6, "deedLine", "()Z"⟩
def dkwX6_deedLine_9 : List UInt8 := [79, 42, 89, 180, 0, 195, 4, 96, 181, 0, 195, 4, 172]
abbrev dktX6_deedLine_9 : List UInt8 := dkwX6_deedLine_9 ++ []
def dkwX6_deedLine_8 : List UInt8 := [42, 3, 17, 3, 231, 182, 0, 179, 154, 0, 5, 3, 172, 42, 180, 0, 54, 27, 5, 96, 42, 180, 0, 170]
abbrev dktX6_deedLine_8 : List UInt8 := dkwX6_deedLine_8 ++ dktX6_deedLine_9
def dkwX6_deedLine_7 : List UInt8 := [27, 28, 79, 42, 180, 0, 54, 27, 4, 96, 42, 180, 0, 170, 79, 42, 16, 13, 182, 1, 34, 153, 0, 14]
abbrev dktX6_deedLine_7 : List UInt8 := dkwX6_deedLine_7 ++ dktX6_deedLine_8
def dkwX6_deedLine_6 : List UInt8 := [28, 154, 0, 9, 17, 3, 231, 167, 0, 5, 18, 159, 182, 0, 179, 154, 0, 5, 3, 172, 42, 180, 0, 54]
abbrev dktX6_deedLine_6 : List UInt8 := dkwX6_deedLine_6 ++ dktX6_deedLine_7
def dkwX6_deedLine_5 : List UInt8 := [160, 0, 22, 42, 42, 180, 0, 29, 7, 42, 180, 0, 189, 182, 1, 31, 153, 0, 26, 167, 0, 25, 42, 3]
abbrev dktX6_deedLine_5 : List UInt8 := dkwX6_deedLine_5 ++ dktX6_deedLine_6
def dkwX6_deedLine_4 : List UInt8 := [164, 0, 9, 42, 4, 182, 0, 163, 172, 42, 180, 0, 150, 16, 10, 100, 61, 42, 182, 0, 173, 28, 5]
abbrev dktX6_deedLine_4 : List UInt8 := dkwX6_deedLine_4 ++ dktX6_deedLine_5
def dkwX6_deedLine_3 : List UInt8 := [180, 0, 139, 4, 160, 0, 21, 42, 180, 0, 150, 16, 10, 161, 0, 12, 42, 180, 0, 150, 16, 12]
abbrev dktX6_deedLine_3 : List UInt8 := dkwX6_deedLine_3 ++ dktX6_deedLine_4
def dkwX6_deedLine_2 : List UInt8 := [7, 42, 180, 0, 195, 96, 42, 180, 1, 23, 80, 16, 12, 6, 42, 180, 0, 195, 104, 96, 60, 42]
abbrev dktX6_deedLine_2 : List UInt8 := dkwX6_deedLine_2 ++ dktX6_deedLine_3
def dkwX6_deedLine_1 : List UInt8 := [42, 180, 0, 195, 182, 1, 3, 153, 0, 11, 42, 9, 182, 1, 27, 154, 0, 5, 3, 172, 42, 180, 0, 51]
abbrev dktX6_deedLine_1 : List UInt8 := dkwX6_deedLine_1 ++ dktX6_deedLine_2
def dkwX6_deedLine_0 : List UInt8 := [42, 180, 0, 195, 7, 160, 0, 9, 42, 5, 182, 0, 163, 172, 42, 182, 0, 173, 42, 42, 180, 0, 48, 7]
abbrev dktX6_deedLine_0 : List UInt8 := dkwX6_deedLine_0 ++ dktX6_deedLine_1
theorem dksX6_deedLine_0 : cX6_deedLine.data.toList.drop 0 = dktX6_deedLine_0 := by decide +kernel
theorem dksX6_deedLine_1 : cX6_deedLine.data.toList.drop 24 = dktX6_deedLine_1 := dk_seg dksX6_deedLine_0 24 rfl rfl
theorem dksX6_deedLine_2 : cX6_deedLine.data.toList.drop 48 = dktX6_deedLine_2 := dk_seg dksX6_deedLine_1 24 rfl rfl
theorem dksX6_deedLine_3 : cX6_deedLine.data.toList.drop 70 = dktX6_deedLine_3 := dk_seg dksX6_deedLine_2 22 rfl rfl
theorem dksX6_deedLine_4 : cX6_deedLine.data.toList.drop 92 = dktX6_deedLine_4 := dk_seg dksX6_deedLine_3 22 rfl rfl
theorem dksX6_deedLine_5 : cX6_deedLine.data.toList.drop 115 = dktX6_deedLine_5 := dk_seg dksX6_deedLine_4 23 rfl rfl
theorem dksX6_deedLine_6 : cX6_deedLine.data.toList.drop 139 = dktX6_deedLine_6 := dk_seg dksX6_deedLine_5 24 rfl rfl
theorem dksX6_deedLine_7 : cX6_deedLine.data.toList.drop 163 = dktX6_deedLine_7 := dk_seg dksX6_deedLine_6 24 rfl rfl
theorem dksX6_deedLine_8 : cX6_deedLine.data.toList.drop 187 = dktX6_deedLine_8 := dk_seg dksX6_deedLine_7 24 rfl rfl
theorem dksX6_deedLine_9 : cX6_deedLine.data.toList.drop 211 = dktX6_deedLine_9 := dk_seg dksX6_deedLine_8 24 rfl rfl
theorem dX6_deedLine_0 : decode cX6_deedLine 0 = .ok (.aload_n 0, 1) := dk_42 (dk_at dksX6_deedLine_0 0 rfl rfl)
theorem dX6_deedLine_1 : decode cX6_deedLine 1 = .ok (.getfield 195, 3) := dk_180 0 195 (dk_at dksX6_deedLine_0 1 rfl rfl)
theorem dX6_deedLine_4 : decode cX6_deedLine 4 = .ok (.iconst 4, 1) := dk_7 (dk_at dksX6_deedLine_0 4 rfl rfl)
theorem dX6_deedLine_5 : decode cX6_deedLine 5 = .ok (.if_icmp .ne 9, 3) := dk_160 0 9 (dk_at dksX6_deedLine_0 5 rfl rfl)
theorem dX6_deedLine_8 : decode cX6_deedLine 8 = .ok (.aload_n 0, 1) := dk_42 (dk_at dksX6_deedLine_0 8 rfl rfl)
theorem dX6_deedLine_9 : decode cX6_deedLine 9 = .ok (.iconst 2, 1) := dk_5 (dk_at dksX6_deedLine_0 9 rfl rfl)
theorem dX6_deedLine_10 : decode cX6_deedLine 10 = .ok (.invokevirtual 163, 3) := dk_182 0 163 (dk_at dksX6_deedLine_0 10 rfl rfl)
theorem dX6_deedLine_13 : decode cX6_deedLine 13 = .ok (.ireturn, 1) := dk_172 (dk_at dksX6_deedLine_0 13 rfl rfl)
theorem dX6_deedLine_14 : decode cX6_deedLine 14 = .ok (.aload_n 0, 1) := dk_42 (dk_at dksX6_deedLine_0 14 rfl rfl)
theorem dX6_deedLine_15 : decode cX6_deedLine 15 = .ok (.invokevirtual 173, 3) := dk_182 0 173 (dk_at dksX6_deedLine_0 15 rfl rfl)
theorem dX6_deedLine_18 : decode cX6_deedLine 18 = .ok (.aload_n 0, 1) := dk_42 (dk_at dksX6_deedLine_0 18 rfl rfl)
theorem dX6_deedLine_19 : decode cX6_deedLine 19 = .ok (.aload_n 0, 1) := dk_42 (dk_at dksX6_deedLine_0 19 rfl rfl)
theorem dX6_deedLine_20 : decode cX6_deedLine 20 = .ok (.getfield 48, 3) := dk_180 0 48 (dk_at dksX6_deedLine_0 20 rfl rfl)
theorem dX6_deedLine_23 : decode cX6_deedLine 23 = .ok (.iconst 4, 1) := dk_7 (dk_at dksX6_deedLine_0 23 rfl rfl)
theorem dX6_deedLine_24 : decode cX6_deedLine 24 = .ok (.aload_n 0, 1) := dk_42 (dk_at dksX6_deedLine_1 0 rfl rfl)
theorem dX6_deedLine_25 : decode cX6_deedLine 25 = .ok (.getfield 195, 3) := dk_180 0 195 (dk_at dksX6_deedLine_1 1 rfl rfl)
theorem dX6_deedLine_28 : decode cX6_deedLine 28 = .ok (.invokevirtual 259, 3) := dk_182 1 3 (dk_at dksX6_deedLine_1 4 rfl rfl)
theorem dX6_deedLine_31 : decode cX6_deedLine 31 = .ok (.ifCond .eq 11, 3) := dk_153 0 11 (dk_at dksX6_deedLine_1 7 rfl rfl)
theorem dX6_deedLine_34 : decode cX6_deedLine 34 = .ok (.aload_n 0, 1) := dk_42 (dk_at dksX6_deedLine_1 10 rfl rfl)
theorem dX6_deedLine_35 : decode cX6_deedLine 35 = .ok (.lconst 0, 1) := dk_9 (dk_at dksX6_deedLine_1 11 rfl rfl)
theorem dX6_deedLine_36 : decode cX6_deedLine 36 = .ok (.invokevirtual 283, 3) := dk_182 1 27 (dk_at dksX6_deedLine_1 12 rfl rfl)
theorem dX6_deedLine_39 : decode cX6_deedLine 39 = .ok (.ifCond .ne 5, 3) := dk_154 0 5 (dk_at dksX6_deedLine_1 15 rfl rfl)
theorem dX6_deedLine_42 : decode cX6_deedLine 42 = .ok (.iconst 0, 1) := dk_3 (dk_at dksX6_deedLine_1 18 rfl rfl)
theorem dX6_deedLine_43 : decode cX6_deedLine 43 = .ok (.ireturn, 1) := dk_172 (dk_at dksX6_deedLine_1 19 rfl rfl)
theorem dX6_deedLine_44 : decode cX6_deedLine 44 = .ok (.aload_n 0, 1) := dk_42 (dk_at dksX6_deedLine_1 20 rfl rfl)
theorem dX6_deedLine_45 : decode cX6_deedLine 45 = .ok (.getfield 51, 3) := dk_180 0 51 (dk_at dksX6_deedLine_1 21 rfl rfl)
theorem dX6_deedLine_48 : decode cX6_deedLine 48 = .ok (.iconst 4, 1) := dk_7 (dk_at dksX6_deedLine_2 0 rfl rfl)
theorem dX6_deedLine_49 : decode cX6_deedLine 49 = .ok (.aload_n 0, 1) := dk_42 (dk_at dksX6_deedLine_2 1 rfl rfl)
theorem dX6_deedLine_50 : decode cX6_deedLine 50 = .ok (.getfield 195, 3) := dk_180 0 195 (dk_at dksX6_deedLine_2 2 rfl rfl)
theorem dX6_deedLine_53 : decode cX6_deedLine 53 = .ok (.iadd, 1) := dk_96 (dk_at dksX6_deedLine_2 5 rfl rfl)
theorem dX6_deedLine_54 : decode cX6_deedLine 54 = .ok (.aload_n 0, 1) := dk_42 (dk_at dksX6_deedLine_2 6 rfl rfl)
theorem dX6_deedLine_55 : decode cX6_deedLine 55 = .ok (.getfield 279, 3) := dk_180 1 23 (dk_at dksX6_deedLine_2 7 rfl rfl)
theorem dX6_deedLine_58 : decode cX6_deedLine 58 = .ok (.lastore, 1) := dk_80 (dk_at dksX6_deedLine_2 10 rfl rfl)
theorem dX6_deedLine_59 : decode cX6_deedLine 59 = .ok (.bipush 12, 2) := dk_16 12 (dk_at dksX6_deedLine_2 11 rfl rfl)
theorem dX6_deedLine_61 : decode cX6_deedLine 61 = .ok (.iconst 3, 1) := dk_6 (dk_at dksX6_deedLine_2 13 rfl rfl)
theorem dX6_deedLine_62 : decode cX6_deedLine 62 = .ok (.aload_n 0, 1) := dk_42 (dk_at dksX6_deedLine_2 14 rfl rfl)
theorem dX6_deedLine_63 : decode cX6_deedLine 63 = .ok (.getfield 195, 3) := dk_180 0 195 (dk_at dksX6_deedLine_2 15 rfl rfl)
theorem dX6_deedLine_66 : decode cX6_deedLine 66 = .ok (.imul, 1) := dk_104 (dk_at dksX6_deedLine_2 18 rfl rfl)
theorem dX6_deedLine_67 : decode cX6_deedLine 67 = .ok (.iadd, 1) := dk_96 (dk_at dksX6_deedLine_2 19 rfl rfl)
theorem dX6_deedLine_68 : decode cX6_deedLine 68 = .ok (.istore_n 1, 1) := dk_60 (dk_at dksX6_deedLine_2 20 rfl rfl)
theorem dX6_deedLine_69 : decode cX6_deedLine 69 = .ok (.aload_n 0, 1) := dk_42 (dk_at dksX6_deedLine_2 21 rfl rfl)
theorem dX6_deedLine_70 : decode cX6_deedLine 70 = .ok (.getfield 139, 3) := dk_180 0 139 (dk_at dksX6_deedLine_3 0 rfl rfl)
theorem dX6_deedLine_73 : decode cX6_deedLine 73 = .ok (.iconst 1, 1) := dk_4 (dk_at dksX6_deedLine_3 3 rfl rfl)
theorem dX6_deedLine_74 : decode cX6_deedLine 74 = .ok (.if_icmp .ne 21, 3) := dk_160 0 21 (dk_at dksX6_deedLine_3 4 rfl rfl)
theorem dX6_deedLine_77 : decode cX6_deedLine 77 = .ok (.aload_n 0, 1) := dk_42 (dk_at dksX6_deedLine_3 7 rfl rfl)
theorem dX6_deedLine_78 : decode cX6_deedLine 78 = .ok (.getfield 150, 3) := dk_180 0 150 (dk_at dksX6_deedLine_3 8 rfl rfl)
theorem dX6_deedLine_81 : decode cX6_deedLine 81 = .ok (.bipush 10, 2) := dk_16 10 (dk_at dksX6_deedLine_3 11 rfl rfl)
theorem dX6_deedLine_83 : decode cX6_deedLine 83 = .ok (.if_icmp .lt 12, 3) := dk_161 0 12 (dk_at dksX6_deedLine_3 13 rfl rfl)
theorem dX6_deedLine_86 : decode cX6_deedLine 86 = .ok (.aload_n 0, 1) := dk_42 (dk_at dksX6_deedLine_3 16 rfl rfl)
theorem dX6_deedLine_87 : decode cX6_deedLine 87 = .ok (.getfield 150, 3) := dk_180 0 150 (dk_at dksX6_deedLine_3 17 rfl rfl)
theorem dX6_deedLine_90 : decode cX6_deedLine 90 = .ok (.bipush 12, 2) := dk_16 12 (dk_at dksX6_deedLine_3 20 rfl rfl)
theorem dX6_deedLine_92 : decode cX6_deedLine 92 = .ok (.if_icmp .le 9, 3) := dk_164 0 9 (dk_at dksX6_deedLine_4 0 rfl rfl)
theorem dX6_deedLine_95 : decode cX6_deedLine 95 = .ok (.aload_n 0, 1) := dk_42 (dk_at dksX6_deedLine_4 3 rfl rfl)
theorem dX6_deedLine_96 : decode cX6_deedLine 96 = .ok (.iconst 1, 1) := dk_4 (dk_at dksX6_deedLine_4 4 rfl rfl)
theorem dX6_deedLine_97 : decode cX6_deedLine 97 = .ok (.invokevirtual 163, 3) := dk_182 0 163 (dk_at dksX6_deedLine_4 5 rfl rfl)
theorem dX6_deedLine_100 : decode cX6_deedLine 100 = .ok (.ireturn, 1) := dk_172 (dk_at dksX6_deedLine_4 8 rfl rfl)
theorem dX6_deedLine_101 : decode cX6_deedLine 101 = .ok (.aload_n 0, 1) := dk_42 (dk_at dksX6_deedLine_4 9 rfl rfl)
theorem dX6_deedLine_102 : decode cX6_deedLine 102 = .ok (.getfield 150, 3) := dk_180 0 150 (dk_at dksX6_deedLine_4 10 rfl rfl)
theorem dX6_deedLine_105 : decode cX6_deedLine 105 = .ok (.bipush 10, 2) := dk_16 10 (dk_at dksX6_deedLine_4 13 rfl rfl)
theorem dX6_deedLine_107 : decode cX6_deedLine 107 = .ok (.isub, 1) := dk_100 (dk_at dksX6_deedLine_4 15 rfl rfl)
theorem dX6_deedLine_108 : decode cX6_deedLine 108 = .ok (.istore_n 2, 1) := dk_61 (dk_at dksX6_deedLine_4 16 rfl rfl)
theorem dX6_deedLine_109 : decode cX6_deedLine 109 = .ok (.aload_n 0, 1) := dk_42 (dk_at dksX6_deedLine_4 17 rfl rfl)
theorem dX6_deedLine_110 : decode cX6_deedLine 110 = .ok (.invokevirtual 173, 3) := dk_182 0 173 (dk_at dksX6_deedLine_4 18 rfl rfl)
theorem dX6_deedLine_113 : decode cX6_deedLine 113 = .ok (.iload_n 2, 1) := dk_28 (dk_at dksX6_deedLine_4 21 rfl rfl)
theorem dX6_deedLine_114 : decode cX6_deedLine 114 = .ok (.iconst 2, 1) := dk_5 (dk_at dksX6_deedLine_4 22 rfl rfl)
theorem dX6_deedLine_115 : decode cX6_deedLine 115 = .ok (.if_icmp .ne 22, 3) := dk_160 0 22 (dk_at dksX6_deedLine_5 0 rfl rfl)
theorem dX6_deedLine_118 : decode cX6_deedLine 118 = .ok (.aload_n 0, 1) := dk_42 (dk_at dksX6_deedLine_5 3 rfl rfl)
theorem dX6_deedLine_119 : decode cX6_deedLine 119 = .ok (.aload_n 0, 1) := dk_42 (dk_at dksX6_deedLine_5 4 rfl rfl)
theorem dX6_deedLine_120 : decode cX6_deedLine 120 = .ok (.getfield 29, 3) := dk_180 0 29 (dk_at dksX6_deedLine_5 5 rfl rfl)
theorem dX6_deedLine_123 : decode cX6_deedLine 123 = .ok (.iconst 4, 1) := dk_7 (dk_at dksX6_deedLine_5 8 rfl rfl)
theorem dX6_deedLine_124 : decode cX6_deedLine 124 = .ok (.aload_n 0, 1) := dk_42 (dk_at dksX6_deedLine_5 9 rfl rfl)
theorem dX6_deedLine_125 : decode cX6_deedLine 125 = .ok (.getfield 189, 3) := dk_180 0 189 (dk_at dksX6_deedLine_5 10 rfl rfl)
theorem dX6_deedLine_128 : decode cX6_deedLine 128 = .ok (.invokevirtual 287, 3) := dk_182 1 31 (dk_at dksX6_deedLine_5 13 rfl rfl)
theorem dX6_deedLine_131 : decode cX6_deedLine 131 = .ok (.ifCond .eq 26, 3) := dk_153 0 26 (dk_at dksX6_deedLine_5 16 rfl rfl)
theorem dX6_deedLine_134 : decode cX6_deedLine 134 = .ok (.goto 25, 3) := dk_167 0 25 (dk_at dksX6_deedLine_5 19 rfl rfl)
theorem dX6_deedLine_137 : decode cX6_deedLine 137 = .ok (.aload_n 0, 1) := dk_42 (dk_at dksX6_deedLine_5 22 rfl rfl)
theorem dX6_deedLine_138 : decode cX6_deedLine 138 = .ok (.iconst 0, 1) := dk_3 (dk_at dksX6_deedLine_5 23 rfl rfl)
theorem dX6_deedLine_139 : decode cX6_deedLine 139 = .ok (.iload_n 2, 1) := dk_28 (dk_at dksX6_deedLine_6 0 rfl rfl)
theorem dX6_deedLine_140 : decode cX6_deedLine 140 = .ok (.ifCond .ne 9, 3) := dk_154 0 9 (dk_at dksX6_deedLine_6 1 rfl rfl)
theorem dX6_deedLine_143 : decode cX6_deedLine 143 = .ok (.sipush 999, 3) := dk_17 3 231 (dk_at dksX6_deedLine_6 4 rfl rfl)
theorem dX6_deedLine_146 : decode cX6_deedLine 146 = .ok (.goto 5, 3) := dk_167 0 5 (dk_at dksX6_deedLine_6 7 rfl rfl)
theorem dX6_deedLine_149 : decode cX6_deedLine 149 = .ok (.ldc 159, 2) := dk_18 159 (dk_at dksX6_deedLine_6 10 rfl rfl)
theorem dX6_deedLine_151 : decode cX6_deedLine 151 = .ok (.invokevirtual 179, 3) := dk_182 0 179 (dk_at dksX6_deedLine_6 12 rfl rfl)
theorem dX6_deedLine_154 : decode cX6_deedLine 154 = .ok (.ifCond .ne 5, 3) := dk_154 0 5 (dk_at dksX6_deedLine_6 15 rfl rfl)
theorem dX6_deedLine_157 : decode cX6_deedLine 157 = .ok (.iconst 0, 1) := dk_3 (dk_at dksX6_deedLine_6 18 rfl rfl)
theorem dX6_deedLine_158 : decode cX6_deedLine 158 = .ok (.ireturn, 1) := dk_172 (dk_at dksX6_deedLine_6 19 rfl rfl)
theorem dX6_deedLine_159 : decode cX6_deedLine 159 = .ok (.aload_n 0, 1) := dk_42 (dk_at dksX6_deedLine_6 20 rfl rfl)
theorem dX6_deedLine_160 : decode cX6_deedLine 160 = .ok (.getfield 54, 3) := dk_180 0 54 (dk_at dksX6_deedLine_6 21 rfl rfl)
theorem dX6_deedLine_163 : decode cX6_deedLine 163 = .ok (.iload_n 1, 1) := dk_27 (dk_at dksX6_deedLine_7 0 rfl rfl)
theorem dX6_deedLine_164 : decode cX6_deedLine 164 = .ok (.iload_n 2, 1) := dk_28 (dk_at dksX6_deedLine_7 1 rfl rfl)
theorem dX6_deedLine_165 : decode cX6_deedLine 165 = .ok (.iastore, 1) := dk_79 (dk_at dksX6_deedLine_7 2 rfl rfl)
theorem dX6_deedLine_166 : decode cX6_deedLine 166 = .ok (.aload_n 0, 1) := dk_42 (dk_at dksX6_deedLine_7 3 rfl rfl)
theorem dX6_deedLine_167 : decode cX6_deedLine 167 = .ok (.getfield 54, 3) := dk_180 0 54 (dk_at dksX6_deedLine_7 4 rfl rfl)
theorem dX6_deedLine_170 : decode cX6_deedLine 170 = .ok (.iload_n 1, 1) := dk_27 (dk_at dksX6_deedLine_7 7 rfl rfl)
theorem dX6_deedLine_171 : decode cX6_deedLine 171 = .ok (.iconst 1, 1) := dk_4 (dk_at dksX6_deedLine_7 8 rfl rfl)
theorem dX6_deedLine_172 : decode cX6_deedLine 172 = .ok (.iadd, 1) := dk_96 (dk_at dksX6_deedLine_7 9 rfl rfl)
theorem dX6_deedLine_173 : decode cX6_deedLine 173 = .ok (.aload_n 0, 1) := dk_42 (dk_at dksX6_deedLine_7 10 rfl rfl)
theorem dX6_deedLine_174 : decode cX6_deedLine 174 = .ok (.getfield 170, 3) := dk_180 0 170 (dk_at dksX6_deedLine_7 11 rfl rfl)
theorem dX6_deedLine_177 : decode cX6_deedLine 177 = .ok (.iastore, 1) := dk_79 (dk_at dksX6_deedLine_7 14 rfl rfl)
theorem dX6_deedLine_178 : decode cX6_deedLine 178 = .ok (.aload_n 0, 1) := dk_42 (dk_at dksX6_deedLine_7 15 rfl rfl)
theorem dX6_deedLine_179 : decode cX6_deedLine 179 = .ok (.bipush 13, 2) := dk_16 13 (dk_at dksX6_deedLine_7 16 rfl rfl)
theorem dX6_deedLine_181 : decode cX6_deedLine 181 = .ok (.invokevirtual 290, 3) := dk_182 1 34 (dk_at dksX6_deedLine_7 18 rfl rfl)
theorem dX6_deedLine_184 : decode cX6_deedLine 184 = .ok (.ifCond .eq 14, 3) := dk_153 0 14 (dk_at dksX6_deedLine_7 21 rfl rfl)
theorem dX6_deedLine_187 : decode cX6_deedLine 187 = .ok (.aload_n 0, 1) := dk_42 (dk_at dksX6_deedLine_8 0 rfl rfl)
theorem dX6_deedLine_188 : decode cX6_deedLine 188 = .ok (.iconst 0, 1) := dk_3 (dk_at dksX6_deedLine_8 1 rfl rfl)
theorem dX6_deedLine_189 : decode cX6_deedLine 189 = .ok (.sipush 999, 3) := dk_17 3 231 (dk_at dksX6_deedLine_8 2 rfl rfl)
theorem dX6_deedLine_192 : decode cX6_deedLine 192 = .ok (.invokevirtual 179, 3) := dk_182 0 179 (dk_at dksX6_deedLine_8 5 rfl rfl)
theorem dX6_deedLine_195 : decode cX6_deedLine 195 = .ok (.ifCond .ne 5, 3) := dk_154 0 5 (dk_at dksX6_deedLine_8 8 rfl rfl)
theorem dX6_deedLine_198 : decode cX6_deedLine 198 = .ok (.iconst 0, 1) := dk_3 (dk_at dksX6_deedLine_8 11 rfl rfl)
theorem dX6_deedLine_199 : decode cX6_deedLine 199 = .ok (.ireturn, 1) := dk_172 (dk_at dksX6_deedLine_8 12 rfl rfl)
theorem dX6_deedLine_200 : decode cX6_deedLine 200 = .ok (.aload_n 0, 1) := dk_42 (dk_at dksX6_deedLine_8 13 rfl rfl)
theorem dX6_deedLine_201 : decode cX6_deedLine 201 = .ok (.getfield 54, 3) := dk_180 0 54 (dk_at dksX6_deedLine_8 14 rfl rfl)
theorem dX6_deedLine_204 : decode cX6_deedLine 204 = .ok (.iload_n 1, 1) := dk_27 (dk_at dksX6_deedLine_8 17 rfl rfl)
theorem dX6_deedLine_205 : decode cX6_deedLine 205 = .ok (.iconst 2, 1) := dk_5 (dk_at dksX6_deedLine_8 18 rfl rfl)
theorem dX6_deedLine_206 : decode cX6_deedLine 206 = .ok (.iadd, 1) := dk_96 (dk_at dksX6_deedLine_8 19 rfl rfl)
theorem dX6_deedLine_207 : decode cX6_deedLine 207 = .ok (.aload_n 0, 1) := dk_42 (dk_at dksX6_deedLine_8 20 rfl rfl)
theorem dX6_deedLine_208 : decode cX6_deedLine 208 = .ok (.getfield 170, 3) := dk_180 0 170 (dk_at dksX6_deedLine_8 21 rfl rfl)
theorem dX6_deedLine_211 : decode cX6_deedLine 211 = .ok (.iastore, 1) := dk_79 (dk_at dksX6_deedLine_9 0 rfl rfl)
theorem dX6_deedLine_212 : decode cX6_deedLine 212 = .ok (.aload_n 0, 1) := dk_42 (dk_at dksX6_deedLine_9 1 rfl rfl)
theorem dX6_deedLine_213 : decode cX6_deedLine 213 = .ok (.dup, 1) := dk_89 (dk_at dksX6_deedLine_9 2 rfl rfl)
theorem dX6_deedLine_214 : decode cX6_deedLine 214 = .ok (.getfield 195, 3) := dk_180 0 195 (dk_at dksX6_deedLine_9 3 rfl rfl)
theorem dX6_deedLine_217 : decode cX6_deedLine 217 = .ok (.iconst 1, 1) := dk_4 (dk_at dksX6_deedLine_9 6 rfl rfl)
theorem dX6_deedLine_218 : decode cX6_deedLine 218 = .ok (.iadd, 1) := dk_96 (dk_at dksX6_deedLine_9 7 rfl rfl)
theorem dX6_deedLine_219 : decode cX6_deedLine 219 = .ok (.putfield 195, 3) := dk_181 0 195 (dk_at dksX6_deedLine_9 8 rfl rfl)
theorem dX6_deedLine_222 : decode cX6_deedLine 222 = .ok (.iconst 1, 1) := dk_4 (dk_at dksX6_deedLine_9 11 rfl rfl)
theorem dX6_deedLine_223 : decode cX6_deedLine 223 = .ok (.ireturn, 1) := dk_172 (dk_at dksX6_deedLine_9 12 rfl rfl)
abbrev cX6_oldName : ByteArray := prog_20_method_25_code
def yX6_oldName : MethodName := ⟨RX6, "oldName", "([III)Z"⟩
def dkwX6_oldName_2 : List UInt8 := [172]
abbrev dktX6_oldName_2 : List UInt8 := dkwX6_oldName_2 ++ []
def dkwX6_oldName_1 : List UInt8 := [54, 4, 21, 4, 156, 0, 9, 42, 7, 182, 0, 163, 172, 42, 21, 4, 181, 0, 170, 42, 182, 0, 173, 4]
abbrev dktX6_oldName_1 : List UInt8 := dkwX6_oldName_1 ++ dktX6_oldName_2
def dkwX6_oldName_0 : List UInt8 := [42, 180, 0, 139, 5, 159, 0, 9, 42, 4, 182, 0, 163, 172, 43, 28, 29, 42, 180, 0, 150, 184, 0, 255]
abbrev dktX6_oldName_0 : List UInt8 := dkwX6_oldName_0 ++ dktX6_oldName_1
theorem dksX6_oldName_0 : cX6_oldName.data.toList.drop 0 = dktX6_oldName_0 := by decide +kernel
theorem dksX6_oldName_1 : cX6_oldName.data.toList.drop 24 = dktX6_oldName_1 := dk_seg dksX6_oldName_0 24 rfl rfl
theorem dksX6_oldName_2 : cX6_oldName.data.toList.drop 48 = dktX6_oldName_2 := dk_seg dksX6_oldName_1 24 rfl rfl
theorem dX6_oldName_0 : decode cX6_oldName 0 = .ok (.aload_n 0, 1) := dk_42 (dk_at dksX6_oldName_0 0 rfl rfl)
theorem dX6_oldName_1 : decode cX6_oldName 1 = .ok (.getfield 139, 3) := dk_180 0 139 (dk_at dksX6_oldName_0 1 rfl rfl)
theorem dX6_oldName_4 : decode cX6_oldName 4 = .ok (.iconst 2, 1) := dk_5 (dk_at dksX6_oldName_0 4 rfl rfl)
theorem dX6_oldName_5 : decode cX6_oldName 5 = .ok (.if_icmp .eq 9, 3) := dk_159 0 9 (dk_at dksX6_oldName_0 5 rfl rfl)
theorem dX6_oldName_8 : decode cX6_oldName 8 = .ok (.aload_n 0, 1) := dk_42 (dk_at dksX6_oldName_0 8 rfl rfl)
theorem dX6_oldName_9 : decode cX6_oldName 9 = .ok (.iconst 1, 1) := dk_4 (dk_at dksX6_oldName_0 9 rfl rfl)
theorem dX6_oldName_10 : decode cX6_oldName 10 = .ok (.invokevirtual 163, 3) := dk_182 0 163 (dk_at dksX6_oldName_0 10 rfl rfl)
theorem dX6_oldName_13 : decode cX6_oldName 13 = .ok (.ireturn, 1) := dk_172 (dk_at dksX6_oldName_0 13 rfl rfl)
theorem dX6_oldName_14 : decode cX6_oldName 14 = .ok (.aload_n 1, 1) := dk_43 (dk_at dksX6_oldName_0 14 rfl rfl)
theorem dX6_oldName_15 : decode cX6_oldName 15 = .ok (.iload_n 2, 1) := dk_28 (dk_at dksX6_oldName_0 15 rfl rfl)
theorem dX6_oldName_16 : decode cX6_oldName 16 = .ok (.iload_n 3, 1) := dk_29 (dk_at dksX6_oldName_0 16 rfl rfl)
theorem dX6_oldName_17 : decode cX6_oldName 17 = .ok (.aload_n 0, 1) := dk_42 (dk_at dksX6_oldName_0 17 rfl rfl)
theorem dX6_oldName_18 : decode cX6_oldName 18 = .ok (.getfield 150, 3) := dk_180 0 150 (dk_at dksX6_oldName_0 18 rfl rfl)
theorem dX6_oldName_21 : decode cX6_oldName 21 = .ok (.invokestatic 255, 3) := dk_184 0 255 (dk_at dksX6_oldName_0 21 rfl rfl)
theorem dX6_oldName_24 : decode cX6_oldName 24 = .ok (.istore 4, 2) := dk_54 4 (dk_at dksX6_oldName_1 0 rfl rfl)
theorem dX6_oldName_26 : decode cX6_oldName 26 = .ok (.iload 4, 2) := dk_21 4 (dk_at dksX6_oldName_1 2 rfl rfl)
theorem dX6_oldName_28 : decode cX6_oldName 28 = .ok (.ifCond .ge 9, 3) := dk_156 0 9 (dk_at dksX6_oldName_1 4 rfl rfl)
theorem dX6_oldName_31 : decode cX6_oldName 31 = .ok (.aload_n 0, 1) := dk_42 (dk_at dksX6_oldName_1 7 rfl rfl)
theorem dX6_oldName_32 : decode cX6_oldName 32 = .ok (.iconst 4, 1) := dk_7 (dk_at dksX6_oldName_1 8 rfl rfl)
theorem dX6_oldName_33 : decode cX6_oldName 33 = .ok (.invokevirtual 163, 3) := dk_182 0 163 (dk_at dksX6_oldName_1 9 rfl rfl)
theorem dX6_oldName_36 : decode cX6_oldName 36 = .ok (.ireturn, 1) := dk_172 (dk_at dksX6_oldName_1 12 rfl rfl)
theorem dX6_oldName_37 : decode cX6_oldName 37 = .ok (.aload_n 0, 1) := dk_42 (dk_at dksX6_oldName_1 13 rfl rfl)
theorem dX6_oldName_38 : decode cX6_oldName 38 = .ok (.iload 4, 2) := dk_21 4 (dk_at dksX6_oldName_1 14 rfl rfl)
theorem dX6_oldName_40 : decode cX6_oldName 40 = .ok (.putfield 170, 3) := dk_181 0 170 (dk_at dksX6_oldName_1 16 rfl rfl)
theorem dX6_oldName_43 : decode cX6_oldName 43 = .ok (.aload_n 0, 1) := dk_42 (dk_at dksX6_oldName_1 19 rfl rfl)
theorem dX6_oldName_44 : decode cX6_oldName 44 = .ok (.invokevirtual 173, 3) := dk_182 0 173 (dk_at dksX6_oldName_1 20 rfl rfl)
theorem dX6_oldName_47 : decode cX6_oldName 47 = .ok (.iconst 1, 1) := dk_4 (dk_at dksX6_oldName_1 23 rfl rfl)
theorem dX6_oldName_48 : decode cX6_oldName 48 = .ok (.ireturn, 1) := dk_172 (dk_at dksX6_oldName_2 0 rfl rfl)
abbrev cX6_keyRead : ByteArray := prog_20_method_18_code
def yX6_keyRead : MethodName := ⟨RX6, "keyRead", "(I)Z"⟩
def dkwX6_keyRead_0 : List UInt8 := [42, 27, 182, 0, 183, 154, 0, 9, 42, 4, 182, 0, 163, 172, 42, 182, 0, 173, 4, 172]
abbrev dktX6_keyRead_0 : List UInt8 := dkwX6_keyRead_0 ++ []
theorem dksX6_keyRead_0 : cX6_keyRead.data.toList.drop 0 = dktX6_keyRead_0 := by decide +kernel
theorem dX6_keyRead_0 : decode cX6_keyRead 0 = .ok (.aload_n 0, 1) := dk_42 (dk_at dksX6_keyRead_0 0 rfl rfl)
theorem dX6_keyRead_1 : decode cX6_keyRead 1 = .ok (.iload_n 1, 1) := dk_27 (dk_at dksX6_keyRead_0 1 rfl rfl)
theorem dX6_keyRead_2 : decode cX6_keyRead 2 = .ok (.invokevirtual 183, 3) := dk_182 0 183 (dk_at dksX6_keyRead_0 2 rfl rfl)
theorem dX6_keyRead_5 : decode cX6_keyRead 5 = .ok (.ifCond .ne 9, 3) := dk_154 0 9 (dk_at dksX6_keyRead_0 5 rfl rfl)
theorem dX6_keyRead_8 : decode cX6_keyRead 8 = .ok (.aload_n 0, 1) := dk_42 (dk_at dksX6_keyRead_0 8 rfl rfl)
theorem dX6_keyRead_9 : decode cX6_keyRead 9 = .ok (.iconst 1, 1) := dk_4 (dk_at dksX6_keyRead_0 9 rfl rfl)
theorem dX6_keyRead_10 : decode cX6_keyRead 10 = .ok (.invokevirtual 163, 3) := dk_182 0 163 (dk_at dksX6_keyRead_0 10 rfl rfl)
theorem dX6_keyRead_13 : decode cX6_keyRead 13 = .ok (.ireturn, 1) := dk_172 (dk_at dksX6_keyRead_0 13 rfl rfl)
theorem dX6_keyRead_14 : decode cX6_keyRead 14 = .ok (.aload_n 0, 1) := dk_42 (dk_at dksX6_keyRead_0 14 rfl rfl)
theorem dX6_keyRead_15 : decode cX6_keyRead 15 = .ok (.invokevirtual 173, 3) := dk_182 0 173 (dk_at dksX6_keyRead_0 15 rfl rfl)
theorem dX6_keyRead_18 : decode cX6_keyRead 18 = .ok (.iconst 1, 1) := dk_4 (dk_at dksX6_keyRead_0 18 rfl rfl)
theorem dX6_keyRead_19 : decode cX6_keyRead 19 = .ok (.ireturn, 1) := dk_172 (dk_at dksX6_keyRead_0 19 rfl rfl)
abbrev cX6_noteLine : ByteArray := prog_20_method_36_code
def yX6_noteLine : MethodName := ⟨RX6, "noteLine", "()Z"⟩
def dkwX6_noteLine_6 : List UInt8 := [180, 0, 198, 4, 96, 181, 0, 198, 4, 172]
abbrev dktX6_noteLine_6 : List UInt8 := dkwX6_noteLine_6 ++ []
def dkwX6_noteLine_5 : List UInt8 := [182, 0, 173, 42, 27, 28, 182, 1, 44, 154, 0, 5, 3, 172, 42, 182, 1, 37, 61, 167, 255, 201, 42, 89]
abbrev dktX6_noteLine_5 : List UInt8 := dkwX6_noteLine_5 ++ dktX6_noteLine_6
def dkwX6_noteLine_4 : List UInt8 := [153, 0, 9, 42, 6, 182, 0, 163, 172, 42, 180, 0, 60, 27, 92, 46, 4, 28, 120, 128, 79, 42]
abbrev dktX6_noteLine_4 : List UInt8 := dkwX6_noteLine_4 ++ dktX6_noteLine_5
def dkwX6_noteLine_3 : List UInt8 := [167, 255, 238, 42, 182, 1, 37, 61, 28, 155, 0, 57, 42, 180, 0, 60, 27, 46, 28, 184, 1, 41]
abbrev dktX6_noteLine_3 : List UInt8 := dkwX6_noteLine_3 ++ dktX6_noteLine_4
def dkwX6_noteLine_2 : List UInt8 := [96, 60, 3, 61, 28, 16, 11, 162, 0, 18, 42, 180, 0, 60, 27, 28, 96, 3, 79, 132, 2, 1]
abbrev dktX6_noteLine_2 : List UInt8 := dkwX6_noteLine_2 ++ dktX6_noteLine_3
def dkwX6_noteLine_1 : List UInt8 := [16, 6, 42, 180, 0, 198, 182, 1, 3, 154, 0, 5, 3, 172, 17, 0, 132, 16, 11, 42, 180, 0, 198, 104]
abbrev dktX6_noteLine_1 : List UInt8 := dkwX6_noteLine_1 ++ dktX6_noteLine_2
def dkwX6_noteLine_0 : List UInt8 := [42, 180, 0, 198, 16, 6, 160, 0, 9, 42, 5, 182, 0, 163, 172, 42, 182, 0, 173, 42, 42, 180, 0, 57]
abbrev dktX6_noteLine_0 : List UInt8 := dkwX6_noteLine_0 ++ dktX6_noteLine_1
theorem dksX6_noteLine_0 : cX6_noteLine.data.toList.drop 0 = dktX6_noteLine_0 := by decide +kernel
theorem dksX6_noteLine_1 : cX6_noteLine.data.toList.drop 24 = dktX6_noteLine_1 := dk_seg dksX6_noteLine_0 24 rfl rfl
theorem dksX6_noteLine_2 : cX6_noteLine.data.toList.drop 48 = dktX6_noteLine_2 := dk_seg dksX6_noteLine_1 24 rfl rfl
theorem dksX6_noteLine_3 : cX6_noteLine.data.toList.drop 70 = dktX6_noteLine_3 := dk_seg dksX6_noteLine_2 22 rfl rfl
theorem dksX6_noteLine_4 : cX6_noteLine.data.toList.drop 92 = dktX6_noteLine_4 := dk_seg dksX6_noteLine_3 22 rfl rfl
theorem dksX6_noteLine_5 : cX6_noteLine.data.toList.drop 114 = dktX6_noteLine_5 := dk_seg dksX6_noteLine_4 22 rfl rfl
theorem dksX6_noteLine_6 : cX6_noteLine.data.toList.drop 138 = dktX6_noteLine_6 := dk_seg dksX6_noteLine_5 24 rfl rfl
theorem dX6_noteLine_0 : decode cX6_noteLine 0 = .ok (.aload_n 0, 1) := dk_42 (dk_at dksX6_noteLine_0 0 rfl rfl)
theorem dX6_noteLine_1 : decode cX6_noteLine 1 = .ok (.getfield 198, 3) := dk_180 0 198 (dk_at dksX6_noteLine_0 1 rfl rfl)
theorem dX6_noteLine_4 : decode cX6_noteLine 4 = .ok (.bipush 6, 2) := dk_16 6 (dk_at dksX6_noteLine_0 4 rfl rfl)
theorem dX6_noteLine_6 : decode cX6_noteLine 6 = .ok (.if_icmp .ne 9, 3) := dk_160 0 9 (dk_at dksX6_noteLine_0 6 rfl rfl)
theorem dX6_noteLine_9 : decode cX6_noteLine 9 = .ok (.aload_n 0, 1) := dk_42 (dk_at dksX6_noteLine_0 9 rfl rfl)
theorem dX6_noteLine_10 : decode cX6_noteLine 10 = .ok (.iconst 2, 1) := dk_5 (dk_at dksX6_noteLine_0 10 rfl rfl)
theorem dX6_noteLine_11 : decode cX6_noteLine 11 = .ok (.invokevirtual 163, 3) := dk_182 0 163 (dk_at dksX6_noteLine_0 11 rfl rfl)
theorem dX6_noteLine_14 : decode cX6_noteLine 14 = .ok (.ireturn, 1) := dk_172 (dk_at dksX6_noteLine_0 14 rfl rfl)
theorem dX6_noteLine_15 : decode cX6_noteLine 15 = .ok (.aload_n 0, 1) := dk_42 (dk_at dksX6_noteLine_0 15 rfl rfl)
theorem dX6_noteLine_16 : decode cX6_noteLine 16 = .ok (.invokevirtual 173, 3) := dk_182 0 173 (dk_at dksX6_noteLine_0 16 rfl rfl)
theorem dX6_noteLine_19 : decode cX6_noteLine 19 = .ok (.aload_n 0, 1) := dk_42 (dk_at dksX6_noteLine_0 19 rfl rfl)
theorem dX6_noteLine_20 : decode cX6_noteLine 20 = .ok (.aload_n 0, 1) := dk_42 (dk_at dksX6_noteLine_0 20 rfl rfl)
theorem dX6_noteLine_21 : decode cX6_noteLine 21 = .ok (.getfield 57, 3) := dk_180 0 57 (dk_at dksX6_noteLine_0 21 rfl rfl)
theorem dX6_noteLine_24 : decode cX6_noteLine 24 = .ok (.bipush 6, 2) := dk_16 6 (dk_at dksX6_noteLine_1 0 rfl rfl)
theorem dX6_noteLine_26 : decode cX6_noteLine 26 = .ok (.aload_n 0, 1) := dk_42 (dk_at dksX6_noteLine_1 2 rfl rfl)
theorem dX6_noteLine_27 : decode cX6_noteLine 27 = .ok (.getfield 198, 3) := dk_180 0 198 (dk_at dksX6_noteLine_1 3 rfl rfl)
theorem dX6_noteLine_30 : decode cX6_noteLine 30 = .ok (.invokevirtual 259, 3) := dk_182 1 3 (dk_at dksX6_noteLine_1 6 rfl rfl)
theorem dX6_noteLine_33 : decode cX6_noteLine 33 = .ok (.ifCond .ne 5, 3) := dk_154 0 5 (dk_at dksX6_noteLine_1 9 rfl rfl)
theorem dX6_noteLine_36 : decode cX6_noteLine 36 = .ok (.iconst 0, 1) := dk_3 (dk_at dksX6_noteLine_1 12 rfl rfl)
theorem dX6_noteLine_37 : decode cX6_noteLine 37 = .ok (.ireturn, 1) := dk_172 (dk_at dksX6_noteLine_1 13 rfl rfl)
theorem dX6_noteLine_38 : decode cX6_noteLine 38 = .ok (.sipush 132, 3) := dk_17 0 132 (dk_at dksX6_noteLine_1 14 rfl rfl)
theorem dX6_noteLine_41 : decode cX6_noteLine 41 = .ok (.bipush 11, 2) := dk_16 11 (dk_at dksX6_noteLine_1 17 rfl rfl)
theorem dX6_noteLine_43 : decode cX6_noteLine 43 = .ok (.aload_n 0, 1) := dk_42 (dk_at dksX6_noteLine_1 19 rfl rfl)
theorem dX6_noteLine_44 : decode cX6_noteLine 44 = .ok (.getfield 198, 3) := dk_180 0 198 (dk_at dksX6_noteLine_1 20 rfl rfl)
theorem dX6_noteLine_47 : decode cX6_noteLine 47 = .ok (.imul, 1) := dk_104 (dk_at dksX6_noteLine_1 23 rfl rfl)
theorem dX6_noteLine_48 : decode cX6_noteLine 48 = .ok (.iadd, 1) := dk_96 (dk_at dksX6_noteLine_2 0 rfl rfl)
theorem dX6_noteLine_49 : decode cX6_noteLine 49 = .ok (.istore_n 1, 1) := dk_60 (dk_at dksX6_noteLine_2 1 rfl rfl)
theorem dX6_noteLine_50 : decode cX6_noteLine 50 = .ok (.iconst 0, 1) := dk_3 (dk_at dksX6_noteLine_2 2 rfl rfl)
theorem dX6_noteLine_51 : decode cX6_noteLine 51 = .ok (.istore_n 2, 1) := dk_61 (dk_at dksX6_noteLine_2 3 rfl rfl)
theorem dX6_noteLine_52 : decode cX6_noteLine 52 = .ok (.iload_n 2, 1) := dk_28 (dk_at dksX6_noteLine_2 4 rfl rfl)
theorem dX6_noteLine_53 : decode cX6_noteLine 53 = .ok (.bipush 11, 2) := dk_16 11 (dk_at dksX6_noteLine_2 5 rfl rfl)
theorem dX6_noteLine_55 : decode cX6_noteLine 55 = .ok (.if_icmp .ge 18, 3) := dk_162 0 18 (dk_at dksX6_noteLine_2 7 rfl rfl)
theorem dX6_noteLine_58 : decode cX6_noteLine 58 = .ok (.aload_n 0, 1) := dk_42 (dk_at dksX6_noteLine_2 10 rfl rfl)
theorem dX6_noteLine_59 : decode cX6_noteLine 59 = .ok (.getfield 60, 3) := dk_180 0 60 (dk_at dksX6_noteLine_2 11 rfl rfl)
theorem dX6_noteLine_62 : decode cX6_noteLine 62 = .ok (.iload_n 1, 1) := dk_27 (dk_at dksX6_noteLine_2 14 rfl rfl)
theorem dX6_noteLine_63 : decode cX6_noteLine 63 = .ok (.iload_n 2, 1) := dk_28 (dk_at dksX6_noteLine_2 15 rfl rfl)
theorem dX6_noteLine_64 : decode cX6_noteLine 64 = .ok (.iadd, 1) := dk_96 (dk_at dksX6_noteLine_2 16 rfl rfl)
theorem dX6_noteLine_65 : decode cX6_noteLine 65 = .ok (.iconst 0, 1) := dk_3 (dk_at dksX6_noteLine_2 17 rfl rfl)
theorem dX6_noteLine_66 : decode cX6_noteLine 66 = .ok (.iastore, 1) := dk_79 (dk_at dksX6_noteLine_2 18 rfl rfl)
theorem dX6_noteLine_67 : decode cX6_noteLine 67 = .ok (.iinc 2 1, 3) := dk_132 2 1 (dk_at dksX6_noteLine_2 19 rfl rfl)
theorem dX6_noteLine_70 : decode cX6_noteLine 70 = .ok (.goto (-18), 3) := dk_167 255 238 (dk_at dksX6_noteLine_3 0 rfl rfl)
theorem dX6_noteLine_73 : decode cX6_noteLine 73 = .ok (.aload_n 0, 1) := dk_42 (dk_at dksX6_noteLine_3 3 rfl rfl)
theorem dX6_noteLine_74 : decode cX6_noteLine 74 = .ok (.invokevirtual 293, 3) := dk_182 1 37 (dk_at dksX6_noteLine_3 4 rfl rfl)
theorem dX6_noteLine_77 : decode cX6_noteLine 77 = .ok (.istore_n 2, 1) := dk_61 (dk_at dksX6_noteLine_3 7 rfl rfl)
theorem dX6_noteLine_78 : decode cX6_noteLine 78 = .ok (.iload_n 2, 1) := dk_28 (dk_at dksX6_noteLine_3 8 rfl rfl)
theorem dX6_noteLine_79 : decode cX6_noteLine 79 = .ok (.ifCond .lt 57, 3) := dk_155 0 57 (dk_at dksX6_noteLine_3 9 rfl rfl)
theorem dX6_noteLine_82 : decode cX6_noteLine 82 = .ok (.aload_n 0, 1) := dk_42 (dk_at dksX6_noteLine_3 12 rfl rfl)
theorem dX6_noteLine_83 : decode cX6_noteLine 83 = .ok (.getfield 60, 3) := dk_180 0 60 (dk_at dksX6_noteLine_3 13 rfl rfl)
theorem dX6_noteLine_86 : decode cX6_noteLine 86 = .ok (.iload_n 1, 1) := dk_27 (dk_at dksX6_noteLine_3 16 rfl rfl)
theorem dX6_noteLine_87 : decode cX6_noteLine 87 = .ok (.iaload, 1) := dk_46 (dk_at dksX6_noteLine_3 17 rfl rfl)
theorem dX6_noteLine_88 : decode cX6_noteLine 88 = .ok (.iload_n 2, 1) := dk_28 (dk_at dksX6_noteLine_3 18 rfl rfl)
theorem dX6_noteLine_89 : decode cX6_noteLine 89 = .ok (.invokestatic 297, 3) := dk_184 1 41 (dk_at dksX6_noteLine_3 19 rfl rfl)
theorem dX6_noteLine_92 : decode cX6_noteLine 92 = .ok (.ifCond .eq 9, 3) := dk_153 0 9 (dk_at dksX6_noteLine_4 0 rfl rfl)
theorem dX6_noteLine_95 : decode cX6_noteLine 95 = .ok (.aload_n 0, 1) := dk_42 (dk_at dksX6_noteLine_4 3 rfl rfl)
theorem dX6_noteLine_96 : decode cX6_noteLine 96 = .ok (.iconst 3, 1) := dk_6 (dk_at dksX6_noteLine_4 4 rfl rfl)
theorem dX6_noteLine_97 : decode cX6_noteLine 97 = .ok (.invokevirtual 163, 3) := dk_182 0 163 (dk_at dksX6_noteLine_4 5 rfl rfl)
theorem dX6_noteLine_100 : decode cX6_noteLine 100 = .ok (.ireturn, 1) := dk_172 (dk_at dksX6_noteLine_4 8 rfl rfl)
theorem dX6_noteLine_101 : decode cX6_noteLine 101 = .ok (.aload_n 0, 1) := dk_42 (dk_at dksX6_noteLine_4 9 rfl rfl)
theorem dX6_noteLine_102 : decode cX6_noteLine 102 = .ok (.getfield 60, 3) := dk_180 0 60 (dk_at dksX6_noteLine_4 10 rfl rfl)
theorem dX6_noteLine_105 : decode cX6_noteLine 105 = .ok (.iload_n 1, 1) := dk_27 (dk_at dksX6_noteLine_4 13 rfl rfl)
theorem dX6_noteLine_106 : decode cX6_noteLine 106 = .ok (.dup2, 1) := dk_92 (dk_at dksX6_noteLine_4 14 rfl rfl)
theorem dX6_noteLine_107 : decode cX6_noteLine 107 = .ok (.iaload, 1) := dk_46 (dk_at dksX6_noteLine_4 15 rfl rfl)
theorem dX6_noteLine_108 : decode cX6_noteLine 108 = .ok (.iconst 1, 1) := dk_4 (dk_at dksX6_noteLine_4 16 rfl rfl)
theorem dX6_noteLine_109 : decode cX6_noteLine 109 = .ok (.iload_n 2, 1) := dk_28 (dk_at dksX6_noteLine_4 17 rfl rfl)
theorem dX6_noteLine_110 : decode cX6_noteLine 110 = .ok (.ishl, 1) := dk_120 (dk_at dksX6_noteLine_4 18 rfl rfl)
theorem dX6_noteLine_111 : decode cX6_noteLine 111 = .ok (.ior, 1) := dk_128 (dk_at dksX6_noteLine_4 19 rfl rfl)
theorem dX6_noteLine_112 : decode cX6_noteLine 112 = .ok (.iastore, 1) := dk_79 (dk_at dksX6_noteLine_4 20 rfl rfl)
theorem dX6_noteLine_113 : decode cX6_noteLine 113 = .ok (.aload_n 0, 1) := dk_42 (dk_at dksX6_noteLine_4 21 rfl rfl)
theorem dX6_noteLine_114 : decode cX6_noteLine 114 = .ok (.invokevirtual 173, 3) := dk_182 0 173 (dk_at dksX6_noteLine_5 0 rfl rfl)
theorem dX6_noteLine_117 : decode cX6_noteLine 117 = .ok (.aload_n 0, 1) := dk_42 (dk_at dksX6_noteLine_5 3 rfl rfl)
theorem dX6_noteLine_118 : decode cX6_noteLine 118 = .ok (.iload_n 1, 1) := dk_27 (dk_at dksX6_noteLine_5 4 rfl rfl)
theorem dX6_noteLine_119 : decode cX6_noteLine 119 = .ok (.iload_n 2, 1) := dk_28 (dk_at dksX6_noteLine_5 5 rfl rfl)
theorem dX6_noteLine_120 : decode cX6_noteLine 120 = .ok (.invokevirtual 300, 3) := dk_182 1 44 (dk_at dksX6_noteLine_5 6 rfl rfl)
theorem dX6_noteLine_123 : decode cX6_noteLine 123 = .ok (.ifCond .ne 5, 3) := dk_154 0 5 (dk_at dksX6_noteLine_5 9 rfl rfl)
theorem dX6_noteLine_126 : decode cX6_noteLine 126 = .ok (.iconst 0, 1) := dk_3 (dk_at dksX6_noteLine_5 12 rfl rfl)
theorem dX6_noteLine_127 : decode cX6_noteLine 127 = .ok (.ireturn, 1) := dk_172 (dk_at dksX6_noteLine_5 13 rfl rfl)
theorem dX6_noteLine_128 : decode cX6_noteLine 128 = .ok (.aload_n 0, 1) := dk_42 (dk_at dksX6_noteLine_5 14 rfl rfl)
theorem dX6_noteLine_129 : decode cX6_noteLine 129 = .ok (.invokevirtual 293, 3) := dk_182 1 37 (dk_at dksX6_noteLine_5 15 rfl rfl)
theorem dX6_noteLine_132 : decode cX6_noteLine 132 = .ok (.istore_n 2, 1) := dk_61 (dk_at dksX6_noteLine_5 18 rfl rfl)
theorem dX6_noteLine_133 : decode cX6_noteLine 133 = .ok (.goto (-55), 3) := dk_167 255 201 (dk_at dksX6_noteLine_5 19 rfl rfl)
theorem dX6_noteLine_136 : decode cX6_noteLine 136 = .ok (.aload_n 0, 1) := dk_42 (dk_at dksX6_noteLine_5 22 rfl rfl)
theorem dX6_noteLine_137 : decode cX6_noteLine 137 = .ok (.dup, 1) := dk_89 (dk_at dksX6_noteLine_5 23 rfl rfl)
theorem dX6_noteLine_138 : decode cX6_noteLine 138 = .ok (.getfield 198, 3) := dk_180 0 198 (dk_at dksX6_noteLine_6 0 rfl rfl)
theorem dX6_noteLine_141 : decode cX6_noteLine 141 = .ok (.iconst 1, 1) := dk_4 (dk_at dksX6_noteLine_6 3 rfl rfl)
theorem dX6_noteLine_142 : decode cX6_noteLine 142 = .ok (.iadd, 1) := dk_96 (dk_at dksX6_noteLine_6 4 rfl rfl)
theorem dX6_noteLine_143 : decode cX6_noteLine 143 = .ok (.putfield 198, 3) := dk_181 0 198 (dk_at dksX6_noteLine_6 5 rfl rfl)
theorem dX6_noteLine_146 : decode cX6_noteLine 146 = .ok (.iconst 1, 1) := dk_4 (dk_at dksX6_noteLine_6 8 rfl rfl)
theorem dX6_noteLine_147 : decode cX6_noteLine 147 = .ok (.ireturn, 1) := dk_172 (dk_at dksX6_noteLine_6 9 rfl rfl)
abbrev cX6_noteWord : ByteArray := prog_20_method_35_code
def yX6_noteWord : MethodName := ⟨RX6, "noteWord", "()I"⟩
def dkwX6_noteWord_2 : List UInt8 := [3, 172, 4, 172, 5, 172, 6, 172, 7, 172, 8, 172, 16, 6, 172, 16, 7, 172, 2, 172]
abbrev dktX6_noteWord_2 : List UInt8 := dkwX6_noteWord_2 ++ []
def dkwX6_noteWord_1 : List UInt8 := [170, 0, 0, 0, 0, 116, 0, 0, 0, 1, 0, 0, 0, 21, 0, 0, 0, 110, 0, 0, 0, 116, 0, 0, 0, 116, 0, 0, 0, 116, 0, 0, 0, 116, 0, 0, 0, 102, 0, 0, 0, 104, 0, 0, 0, 116, 0, 0, 0, 116, 0, 0, 0, 116, 0, 0, 0, 116, 0, 0, 0, 116, 0, 0, 0, 116, 0, 0, 0, 108, 0, 0, 0, 113, 0, 0, 0, 116, 0, 0, 0, 116, 0, 0, 0, 116, 0, 0, 0, 100, 0, 0, 0, 98, 0, 0, 0, 106]
abbrev dktX6_noteWord_1 : List UInt8 := dkwX6_noteWord_1 ++ dktX6_noteWord_2
def dkwX6_noteWord_0 : List UInt8 := [42, 180, 0, 139, 4, 159, 0, 5, 2, 172, 42, 180, 0, 150]
abbrev dktX6_noteWord_0 : List UInt8 := dkwX6_noteWord_0 ++ dktX6_noteWord_1
theorem dksX6_noteWord_0 : cX6_noteWord.data.toList.drop 0 = dktX6_noteWord_0 := by decide +kernel
theorem dksX6_noteWord_1 : cX6_noteWord.data.toList.drop 14 = dktX6_noteWord_1 := dk_seg dksX6_noteWord_0 14 rfl rfl
theorem dksX6_noteWord_2 : cX6_noteWord.data.toList.drop 112 = dktX6_noteWord_2 := dk_seg dksX6_noteWord_1 98 rfl rfl
theorem dX6_noteWord_0 : decode cX6_noteWord 0 = .ok (.aload_n 0, 1) := dk_42 (dk_at dksX6_noteWord_0 0 rfl rfl)
theorem dX6_noteWord_1 : decode cX6_noteWord 1 = .ok (.getfield 139, 3) := dk_180 0 139 (dk_at dksX6_noteWord_0 1 rfl rfl)
theorem dX6_noteWord_4 : decode cX6_noteWord 4 = .ok (.iconst 1, 1) := dk_4 (dk_at dksX6_noteWord_0 4 rfl rfl)
theorem dX6_noteWord_5 : decode cX6_noteWord 5 = .ok (.if_icmp .eq 5, 3) := dk_159 0 5 (dk_at dksX6_noteWord_0 5 rfl rfl)
theorem dX6_noteWord_8 : decode cX6_noteWord 8 = .ok (.iconst (-1), 1) := dk_2 (dk_at dksX6_noteWord_0 8 rfl rfl)
theorem dX6_noteWord_9 : decode cX6_noteWord 9 = .ok (.ireturn, 1) := dk_172 (dk_at dksX6_noteWord_0 9 rfl rfl)
theorem dX6_noteWord_10 : decode cX6_noteWord 10 = .ok (.aload_n 0, 1) := dk_42 (dk_at dksX6_noteWord_0 10 rfl rfl)
theorem dX6_noteWord_11 : decode cX6_noteWord 11 = .ok (.getfield 150, 3) := dk_180 0 150 (dk_at dksX6_noteWord_0 11 rfl rfl)
theorem dX6_noteWord_14 : decode cX6_noteWord 14 = .ok (.tableswitch 116 1 21 #[110, 116, 116, 116, 116, 102, 104, 116, 116, 116, 116, 116, 116, 108, 113, 116, 116, 116, 100, 98, 106], 98) := by decide +kernel
theorem dX6_noteWord_112 : decode cX6_noteWord 112 = .ok (.iconst 0, 1) := dk_3 (dk_at dksX6_noteWord_2 0 rfl rfl)
theorem dX6_noteWord_113 : decode cX6_noteWord 113 = .ok (.ireturn, 1) := dk_172 (dk_at dksX6_noteWord_2 1 rfl rfl)
theorem dX6_noteWord_114 : decode cX6_noteWord 114 = .ok (.iconst 1, 1) := dk_4 (dk_at dksX6_noteWord_2 2 rfl rfl)
theorem dX6_noteWord_115 : decode cX6_noteWord 115 = .ok (.ireturn, 1) := dk_172 (dk_at dksX6_noteWord_2 3 rfl rfl)
theorem dX6_noteWord_116 : decode cX6_noteWord 116 = .ok (.iconst 2, 1) := dk_5 (dk_at dksX6_noteWord_2 4 rfl rfl)
theorem dX6_noteWord_117 : decode cX6_noteWord 117 = .ok (.ireturn, 1) := dk_172 (dk_at dksX6_noteWord_2 5 rfl rfl)
theorem dX6_noteWord_118 : decode cX6_noteWord 118 = .ok (.iconst 3, 1) := dk_6 (dk_at dksX6_noteWord_2 6 rfl rfl)
theorem dX6_noteWord_119 : decode cX6_noteWord 119 = .ok (.ireturn, 1) := dk_172 (dk_at dksX6_noteWord_2 7 rfl rfl)
theorem dX6_noteWord_120 : decode cX6_noteWord 120 = .ok (.iconst 4, 1) := dk_7 (dk_at dksX6_noteWord_2 8 rfl rfl)
theorem dX6_noteWord_121 : decode cX6_noteWord 121 = .ok (.ireturn, 1) := dk_172 (dk_at dksX6_noteWord_2 9 rfl rfl)
theorem dX6_noteWord_122 : decode cX6_noteWord 122 = .ok (.iconst 5, 1) := dk_8 (dk_at dksX6_noteWord_2 10 rfl rfl)
theorem dX6_noteWord_123 : decode cX6_noteWord 123 = .ok (.ireturn, 1) := dk_172 (dk_at dksX6_noteWord_2 11 rfl rfl)
theorem dX6_noteWord_124 : decode cX6_noteWord 124 = .ok (.bipush 6, 2) := dk_16 6 (dk_at dksX6_noteWord_2 12 rfl rfl)
theorem dX6_noteWord_126 : decode cX6_noteWord 126 = .ok (.ireturn, 1) := dk_172 (dk_at dksX6_noteWord_2 14 rfl rfl)
theorem dX6_noteWord_127 : decode cX6_noteWord 127 = .ok (.bipush 7, 2) := dk_16 7 (dk_at dksX6_noteWord_2 15 rfl rfl)
theorem dX6_noteWord_129 : decode cX6_noteWord 129 = .ok (.ireturn, 1) := dk_172 (dk_at dksX6_noteWord_2 17 rfl rfl)
theorem dX6_noteWord_130 : decode cX6_noteWord 130 = .ok (.iconst (-1), 1) := dk_2 (dk_at dksX6_noteWord_2 18 rfl rfl)
theorem dX6_noteWord_131 : decode cX6_noteWord 131 = .ok (.ireturn, 1) := dk_172 (dk_at dksX6_noteWord_2 19 rfl rfl)
abbrev cX6_isOf : ByteArray := prog_20_method_5_code
def yX6_isOf : MethodName := ⟨RX6, "isOf", "(II)Z"⟩
def dkwX6_isOf_0 : List UInt8 := [26, 27, 122, 4, 126, 4, 160, 0, 7, 4, 167, 0, 4, 3, 172]
abbrev dktX6_isOf_0 : List UInt8 := dkwX6_isOf_0 ++ []
theorem dksX6_isOf_0 : cX6_isOf.data.toList.drop 0 = dktX6_isOf_0 := by decide +kernel
theorem dX6_isOf_0 : decode cX6_isOf 0 = .ok (.iload_n 0, 1) := dk_26 (dk_at dksX6_isOf_0 0 rfl rfl)
theorem dX6_isOf_1 : decode cX6_isOf 1 = .ok (.iload_n 1, 1) := dk_27 (dk_at dksX6_isOf_0 1 rfl rfl)
theorem dX6_isOf_2 : decode cX6_isOf 2 = .ok (.ishr, 1) := dk_122 (dk_at dksX6_isOf_0 2 rfl rfl)
theorem dX6_isOf_3 : decode cX6_isOf 3 = .ok (.iconst 1, 1) := dk_4 (dk_at dksX6_isOf_0 3 rfl rfl)
theorem dX6_isOf_4 : decode cX6_isOf 4 = .ok (.iand, 1) := dk_126 (dk_at dksX6_isOf_0 4 rfl rfl)
theorem dX6_isOf_5 : decode cX6_isOf 5 = .ok (.iconst 1, 1) := dk_4 (dk_at dksX6_isOf_0 5 rfl rfl)
theorem dX6_isOf_6 : decode cX6_isOf 6 = .ok (.if_icmp .ne 7, 3) := dk_160 0 7 (dk_at dksX6_isOf_0 6 rfl rfl)
theorem dX6_isOf_9 : decode cX6_isOf 9 = .ok (.iconst 1, 1) := dk_4 (dk_at dksX6_isOf_0 9 rfl rfl)
theorem dX6_isOf_10 : decode cX6_isOf 10 = .ok (.goto 4, 3) := dk_167 0 4 (dk_at dksX6_isOf_0 10 rfl rfl)
theorem dX6_isOf_13 : decode cX6_isOf 13 = .ok (.iconst 0, 1) := dk_3 (dk_at dksX6_isOf_0 13 rfl rfl)
theorem dX6_isOf_14 : decode cX6_isOf 14 = .ok (.ireturn, 1) := dk_172 (dk_at dksX6_isOf_0 14 rfl rfl)
abbrev cX6_saysRead : ByteArray := prog_20_method_37_code
def yX6_saysRead : MethodName := ⟨RX6, "saysRead", "(II)Z"⟩
def dkwX6_saysRead_10 : List UInt8 := [4, 172]
abbrev dktX6_saysRead_10 : List UInt8 := dkwX6_saysRead_10 ++ []
def dkwX6_saysRead_9 : List UInt8 := [17, 39, 15, 182, 1, 7, 154, 0, 5, 3, 172, 42, 180, 0, 60, 27, 16, 10, 96, 42, 180, 0, 170, 79]
abbrev dktX6_saysRead_9 : List UInt8 := dkwX6_saysRead_9 ++ dktX6_saysRead_10
def dkwX6_saysRead_8 : List UInt8 := [42, 180, 0, 60, 27, 5, 96, 28, 96, 42, 180, 0, 170, 79, 28, 16, 7, 162, 0, 5, 4, 172, 42]
abbrev dktX6_saysRead_8 : List UInt8 := dkwX6_saysRead_8 ++ dktX6_saysRead_9
def dkwX6_saysRead_7 : List UInt8 := [167, 0, 17, 42, 42, 180, 0, 57, 16, 6, 42, 180, 0, 198, 182, 1, 31, 62, 29, 154, 0, 5, 3, 172]
abbrev dktX6_saysRead_7 : List UInt8 := dkwX6_saysRead_7 ++ dktX6_saysRead_8
def dkwX6_saysRead_6 : List UInt8 := [167, 0, 39, 28, 16, 6, 160, 0, 19, 42, 42, 180, 0, 29, 7, 42, 180, 0, 189, 182, 1, 31]
abbrev dktX6_saysRead_6 : List UInt8 := dkwX6_saysRead_6 ++ dktX6_saysRead_7
def dkwX6_saysRead_5 : List UInt8 := [167, 0, 61, 28, 8, 160, 0, 20, 42, 42, 180, 0, 38, 16, 6, 42, 180, 0, 192, 182, 1, 31]
abbrev dktX6_saysRead_5 : List UInt8 := dkwX6_saysRead_5 ++ dktX6_saysRead_6
def dkwX6_saysRead_4 : List UInt8 := [160, 0, 13, 42, 3, 16, 7, 182, 0, 179, 167, 0, 75, 28, 7, 160, 0, 12, 42, 3, 6, 182, 0, 179]
abbrev dktX6_saysRead_4 : List UInt8 := dkwX6_saysRead_4 ++ dktX6_saysRead_5
def dkwX6_saysRead_3 : List UInt8 := [182, 0, 179, 167, 0, 105, 28, 5, 160, 0, 13, 42, 3, 18, 159, 182, 0, 179, 167, 0, 90, 28, 6]
abbrev dktX6_saysRead_3 : List UInt8 := dkwX6_saysRead_3 ++ dktX6_saysRead_4
def dkwX6_saysRead_2 : List UInt8 := [180, 0, 60, 27, 5, 96, 42, 180, 0, 170, 79, 4, 172, 28, 4, 160, 0, 13, 42, 4, 18, 159]
abbrev dktX6_saysRead_2 : List UInt8 := dkwX6_saysRead_2 ++ dktX6_saysRead_3
def dkwX6_saysRead_1 : List UInt8 := [42, 180, 0, 170, 79, 42, 42, 180, 0, 170, 17, 39, 15, 182, 0, 179, 154, 0, 5, 3, 172, 42]
abbrev dktX6_saysRead_1 : List UInt8 := dkwX6_saysRead_1 ++ dktX6_saysRead_2
def dkwX6_saysRead_0 : List UInt8 := [28, 154, 0, 58, 42, 4, 17, 39, 15, 182, 0, 179, 154, 0, 5, 3, 172, 42, 180, 0, 60, 27, 4, 96]
abbrev dktX6_saysRead_0 : List UInt8 := dkwX6_saysRead_0 ++ dktX6_saysRead_1
theorem dksX6_saysRead_0 : cX6_saysRead.data.toList.drop 0 = dktX6_saysRead_0 := by decide +kernel
theorem dksX6_saysRead_1 : cX6_saysRead.data.toList.drop 24 = dktX6_saysRead_1 := dk_seg dksX6_saysRead_0 24 rfl rfl
theorem dksX6_saysRead_2 : cX6_saysRead.data.toList.drop 46 = dktX6_saysRead_2 := dk_seg dksX6_saysRead_1 22 rfl rfl
theorem dksX6_saysRead_3 : cX6_saysRead.data.toList.drop 68 = dktX6_saysRead_3 := dk_seg dksX6_saysRead_2 22 rfl rfl
theorem dksX6_saysRead_4 : cX6_saysRead.data.toList.drop 91 = dktX6_saysRead_4 := dk_seg dksX6_saysRead_3 23 rfl rfl
theorem dksX6_saysRead_5 : cX6_saysRead.data.toList.drop 115 = dktX6_saysRead_5 := dk_seg dksX6_saysRead_4 24 rfl rfl
theorem dksX6_saysRead_6 : cX6_saysRead.data.toList.drop 137 = dktX6_saysRead_6 := dk_seg dksX6_saysRead_5 22 rfl rfl
theorem dksX6_saysRead_7 : cX6_saysRead.data.toList.drop 159 = dktX6_saysRead_7 := dk_seg dksX6_saysRead_6 22 rfl rfl
theorem dksX6_saysRead_8 : cX6_saysRead.data.toList.drop 183 = dktX6_saysRead_8 := dk_seg dksX6_saysRead_7 24 rfl rfl
theorem dksX6_saysRead_9 : cX6_saysRead.data.toList.drop 206 = dktX6_saysRead_9 := dk_seg dksX6_saysRead_8 23 rfl rfl
theorem dksX6_saysRead_10 : cX6_saysRead.data.toList.drop 230 = dktX6_saysRead_10 := dk_seg dksX6_saysRead_9 24 rfl rfl
theorem dX6_saysRead_0 : decode cX6_saysRead 0 = .ok (.iload_n 2, 1) := dk_28 (dk_at dksX6_saysRead_0 0 rfl rfl)
theorem dX6_saysRead_1 : decode cX6_saysRead 1 = .ok (.ifCond .ne 58, 3) := dk_154 0 58 (dk_at dksX6_saysRead_0 1 rfl rfl)
theorem dX6_saysRead_4 : decode cX6_saysRead 4 = .ok (.aload_n 0, 1) := dk_42 (dk_at dksX6_saysRead_0 4 rfl rfl)
theorem dX6_saysRead_5 : decode cX6_saysRead 5 = .ok (.iconst 1, 1) := dk_4 (dk_at dksX6_saysRead_0 5 rfl rfl)
theorem dX6_saysRead_6 : decode cX6_saysRead 6 = .ok (.sipush 9999, 3) := dk_17 39 15 (dk_at dksX6_saysRead_0 6 rfl rfl)
theorem dX6_saysRead_9 : decode cX6_saysRead 9 = .ok (.invokevirtual 179, 3) := dk_182 0 179 (dk_at dksX6_saysRead_0 9 rfl rfl)
theorem dX6_saysRead_12 : decode cX6_saysRead 12 = .ok (.ifCond .ne 5, 3) := dk_154 0 5 (dk_at dksX6_saysRead_0 12 rfl rfl)
theorem dX6_saysRead_15 : decode cX6_saysRead 15 = .ok (.iconst 0, 1) := dk_3 (dk_at dksX6_saysRead_0 15 rfl rfl)
theorem dX6_saysRead_16 : decode cX6_saysRead 16 = .ok (.ireturn, 1) := dk_172 (dk_at dksX6_saysRead_0 16 rfl rfl)
theorem dX6_saysRead_17 : decode cX6_saysRead 17 = .ok (.aload_n 0, 1) := dk_42 (dk_at dksX6_saysRead_0 17 rfl rfl)
theorem dX6_saysRead_18 : decode cX6_saysRead 18 = .ok (.getfield 60, 3) := dk_180 0 60 (dk_at dksX6_saysRead_0 18 rfl rfl)
theorem dX6_saysRead_21 : decode cX6_saysRead 21 = .ok (.iload_n 1, 1) := dk_27 (dk_at dksX6_saysRead_0 21 rfl rfl)
theorem dX6_saysRead_22 : decode cX6_saysRead 22 = .ok (.iconst 1, 1) := dk_4 (dk_at dksX6_saysRead_0 22 rfl rfl)
theorem dX6_saysRead_23 : decode cX6_saysRead 23 = .ok (.iadd, 1) := dk_96 (dk_at dksX6_saysRead_0 23 rfl rfl)
theorem dX6_saysRead_24 : decode cX6_saysRead 24 = .ok (.aload_n 0, 1) := dk_42 (dk_at dksX6_saysRead_1 0 rfl rfl)
theorem dX6_saysRead_25 : decode cX6_saysRead 25 = .ok (.getfield 170, 3) := dk_180 0 170 (dk_at dksX6_saysRead_1 1 rfl rfl)
theorem dX6_saysRead_28 : decode cX6_saysRead 28 = .ok (.iastore, 1) := dk_79 (dk_at dksX6_saysRead_1 4 rfl rfl)
theorem dX6_saysRead_29 : decode cX6_saysRead 29 = .ok (.aload_n 0, 1) := dk_42 (dk_at dksX6_saysRead_1 5 rfl rfl)
theorem dX6_saysRead_30 : decode cX6_saysRead 30 = .ok (.aload_n 0, 1) := dk_42 (dk_at dksX6_saysRead_1 6 rfl rfl)
theorem dX6_saysRead_31 : decode cX6_saysRead 31 = .ok (.getfield 170, 3) := dk_180 0 170 (dk_at dksX6_saysRead_1 7 rfl rfl)
theorem dX6_saysRead_34 : decode cX6_saysRead 34 = .ok (.sipush 9999, 3) := dk_17 39 15 (dk_at dksX6_saysRead_1 10 rfl rfl)
theorem dX6_saysRead_37 : decode cX6_saysRead 37 = .ok (.invokevirtual 179, 3) := dk_182 0 179 (dk_at dksX6_saysRead_1 13 rfl rfl)
theorem dX6_saysRead_40 : decode cX6_saysRead 40 = .ok (.ifCond .ne 5, 3) := dk_154 0 5 (dk_at dksX6_saysRead_1 16 rfl rfl)
theorem dX6_saysRead_43 : decode cX6_saysRead 43 = .ok (.iconst 0, 1) := dk_3 (dk_at dksX6_saysRead_1 19 rfl rfl)
theorem dX6_saysRead_44 : decode cX6_saysRead 44 = .ok (.ireturn, 1) := dk_172 (dk_at dksX6_saysRead_1 20 rfl rfl)
theorem dX6_saysRead_45 : decode cX6_saysRead 45 = .ok (.aload_n 0, 1) := dk_42 (dk_at dksX6_saysRead_1 21 rfl rfl)
theorem dX6_saysRead_46 : decode cX6_saysRead 46 = .ok (.getfield 60, 3) := dk_180 0 60 (dk_at dksX6_saysRead_2 0 rfl rfl)
theorem dX6_saysRead_49 : decode cX6_saysRead 49 = .ok (.iload_n 1, 1) := dk_27 (dk_at dksX6_saysRead_2 3 rfl rfl)
theorem dX6_saysRead_50 : decode cX6_saysRead 50 = .ok (.iconst 2, 1) := dk_5 (dk_at dksX6_saysRead_2 4 rfl rfl)
theorem dX6_saysRead_51 : decode cX6_saysRead 51 = .ok (.iadd, 1) := dk_96 (dk_at dksX6_saysRead_2 5 rfl rfl)
theorem dX6_saysRead_52 : decode cX6_saysRead 52 = .ok (.aload_n 0, 1) := dk_42 (dk_at dksX6_saysRead_2 6 rfl rfl)
theorem dX6_saysRead_53 : decode cX6_saysRead 53 = .ok (.getfield 170, 3) := dk_180 0 170 (dk_at dksX6_saysRead_2 7 rfl rfl)
theorem dX6_saysRead_56 : decode cX6_saysRead 56 = .ok (.iastore, 1) := dk_79 (dk_at dksX6_saysRead_2 10 rfl rfl)
theorem dX6_saysRead_57 : decode cX6_saysRead 57 = .ok (.iconst 1, 1) := dk_4 (dk_at dksX6_saysRead_2 11 rfl rfl)
theorem dX6_saysRead_58 : decode cX6_saysRead 58 = .ok (.ireturn, 1) := dk_172 (dk_at dksX6_saysRead_2 12 rfl rfl)
theorem dX6_saysRead_59 : decode cX6_saysRead 59 = .ok (.iload_n 2, 1) := dk_28 (dk_at dksX6_saysRead_2 13 rfl rfl)
theorem dX6_saysRead_60 : decode cX6_saysRead 60 = .ok (.iconst 1, 1) := dk_4 (dk_at dksX6_saysRead_2 14 rfl rfl)
theorem dX6_saysRead_61 : decode cX6_saysRead 61 = .ok (.if_icmp .ne 13, 3) := dk_160 0 13 (dk_at dksX6_saysRead_2 15 rfl rfl)
theorem dX6_saysRead_64 : decode cX6_saysRead 64 = .ok (.aload_n 0, 1) := dk_42 (dk_at dksX6_saysRead_2 18 rfl rfl)
theorem dX6_saysRead_65 : decode cX6_saysRead 65 = .ok (.iconst 1, 1) := dk_4 (dk_at dksX6_saysRead_2 19 rfl rfl)
theorem dX6_saysRead_66 : decode cX6_saysRead 66 = .ok (.ldc 159, 2) := dk_18 159 (dk_at dksX6_saysRead_2 20 rfl rfl)
theorem dX6_saysRead_68 : decode cX6_saysRead 68 = .ok (.invokevirtual 179, 3) := dk_182 0 179 (dk_at dksX6_saysRead_3 0 rfl rfl)
theorem dX6_saysRead_71 : decode cX6_saysRead 71 = .ok (.goto 105, 3) := dk_167 0 105 (dk_at dksX6_saysRead_3 3 rfl rfl)
theorem dX6_saysRead_74 : decode cX6_saysRead 74 = .ok (.iload_n 2, 1) := dk_28 (dk_at dksX6_saysRead_3 6 rfl rfl)
theorem dX6_saysRead_75 : decode cX6_saysRead 75 = .ok (.iconst 2, 1) := dk_5 (dk_at dksX6_saysRead_3 7 rfl rfl)
theorem dX6_saysRead_76 : decode cX6_saysRead 76 = .ok (.if_icmp .ne 13, 3) := dk_160 0 13 (dk_at dksX6_saysRead_3 8 rfl rfl)
theorem dX6_saysRead_79 : decode cX6_saysRead 79 = .ok (.aload_n 0, 1) := dk_42 (dk_at dksX6_saysRead_3 11 rfl rfl)
theorem dX6_saysRead_80 : decode cX6_saysRead 80 = .ok (.iconst 0, 1) := dk_3 (dk_at dksX6_saysRead_3 12 rfl rfl)
theorem dX6_saysRead_81 : decode cX6_saysRead 81 = .ok (.ldc 159, 2) := dk_18 159 (dk_at dksX6_saysRead_3 13 rfl rfl)
theorem dX6_saysRead_83 : decode cX6_saysRead 83 = .ok (.invokevirtual 179, 3) := dk_182 0 179 (dk_at dksX6_saysRead_3 15 rfl rfl)
theorem dX6_saysRead_86 : decode cX6_saysRead 86 = .ok (.goto 90, 3) := dk_167 0 90 (dk_at dksX6_saysRead_3 18 rfl rfl)
theorem dX6_saysRead_89 : decode cX6_saysRead 89 = .ok (.iload_n 2, 1) := dk_28 (dk_at dksX6_saysRead_3 21 rfl rfl)
theorem dX6_saysRead_90 : decode cX6_saysRead 90 = .ok (.iconst 3, 1) := dk_6 (dk_at dksX6_saysRead_3 22 rfl rfl)
theorem dX6_saysRead_91 : decode cX6_saysRead 91 = .ok (.if_icmp .ne 13, 3) := dk_160 0 13 (dk_at dksX6_saysRead_4 0 rfl rfl)
theorem dX6_saysRead_94 : decode cX6_saysRead 94 = .ok (.aload_n 0, 1) := dk_42 (dk_at dksX6_saysRead_4 3 rfl rfl)
theorem dX6_saysRead_95 : decode cX6_saysRead 95 = .ok (.iconst 0, 1) := dk_3 (dk_at dksX6_saysRead_4 4 rfl rfl)
theorem dX6_saysRead_96 : decode cX6_saysRead 96 = .ok (.bipush 7, 2) := dk_16 7 (dk_at dksX6_saysRead_4 5 rfl rfl)
theorem dX6_saysRead_98 : decode cX6_saysRead 98 = .ok (.invokevirtual 179, 3) := dk_182 0 179 (dk_at dksX6_saysRead_4 7 rfl rfl)
theorem dX6_saysRead_101 : decode cX6_saysRead 101 = .ok (.goto 75, 3) := dk_167 0 75 (dk_at dksX6_saysRead_4 10 rfl rfl)
theorem dX6_saysRead_104 : decode cX6_saysRead 104 = .ok (.iload_n 2, 1) := dk_28 (dk_at dksX6_saysRead_4 13 rfl rfl)
theorem dX6_saysRead_105 : decode cX6_saysRead 105 = .ok (.iconst 4, 1) := dk_7 (dk_at dksX6_saysRead_4 14 rfl rfl)
theorem dX6_saysRead_106 : decode cX6_saysRead 106 = .ok (.if_icmp .ne 12, 3) := dk_160 0 12 (dk_at dksX6_saysRead_4 15 rfl rfl)
theorem dX6_saysRead_109 : decode cX6_saysRead 109 = .ok (.aload_n 0, 1) := dk_42 (dk_at dksX6_saysRead_4 18 rfl rfl)
theorem dX6_saysRead_110 : decode cX6_saysRead 110 = .ok (.iconst 0, 1) := dk_3 (dk_at dksX6_saysRead_4 19 rfl rfl)
theorem dX6_saysRead_111 : decode cX6_saysRead 111 = .ok (.iconst 3, 1) := dk_6 (dk_at dksX6_saysRead_4 20 rfl rfl)
theorem dX6_saysRead_112 : decode cX6_saysRead 112 = .ok (.invokevirtual 179, 3) := dk_182 0 179 (dk_at dksX6_saysRead_4 21 rfl rfl)
theorem dX6_saysRead_115 : decode cX6_saysRead 115 = .ok (.goto 61, 3) := dk_167 0 61 (dk_at dksX6_saysRead_5 0 rfl rfl)
theorem dX6_saysRead_118 : decode cX6_saysRead 118 = .ok (.iload_n 2, 1) := dk_28 (dk_at dksX6_saysRead_5 3 rfl rfl)
theorem dX6_saysRead_119 : decode cX6_saysRead 119 = .ok (.iconst 5, 1) := dk_8 (dk_at dksX6_saysRead_5 4 rfl rfl)
theorem dX6_saysRead_120 : decode cX6_saysRead 120 = .ok (.if_icmp .ne 20, 3) := dk_160 0 20 (dk_at dksX6_saysRead_5 5 rfl rfl)
theorem dX6_saysRead_123 : decode cX6_saysRead 123 = .ok (.aload_n 0, 1) := dk_42 (dk_at dksX6_saysRead_5 8 rfl rfl)
theorem dX6_saysRead_124 : decode cX6_saysRead 124 = .ok (.aload_n 0, 1) := dk_42 (dk_at dksX6_saysRead_5 9 rfl rfl)
theorem dX6_saysRead_125 : decode cX6_saysRead 125 = .ok (.getfield 38, 3) := dk_180 0 38 (dk_at dksX6_saysRead_5 10 rfl rfl)
theorem dX6_saysRead_128 : decode cX6_saysRead 128 = .ok (.bipush 6, 2) := dk_16 6 (dk_at dksX6_saysRead_5 13 rfl rfl)
theorem dX6_saysRead_130 : decode cX6_saysRead 130 = .ok (.aload_n 0, 1) := dk_42 (dk_at dksX6_saysRead_5 15 rfl rfl)
theorem dX6_saysRead_131 : decode cX6_saysRead 131 = .ok (.getfield 192, 3) := dk_180 0 192 (dk_at dksX6_saysRead_5 16 rfl rfl)
theorem dX6_saysRead_134 : decode cX6_saysRead 134 = .ok (.invokevirtual 287, 3) := dk_182 1 31 (dk_at dksX6_saysRead_5 19 rfl rfl)
theorem dX6_saysRead_137 : decode cX6_saysRead 137 = .ok (.goto 39, 3) := dk_167 0 39 (dk_at dksX6_saysRead_6 0 rfl rfl)
theorem dX6_saysRead_140 : decode cX6_saysRead 140 = .ok (.iload_n 2, 1) := dk_28 (dk_at dksX6_saysRead_6 3 rfl rfl)
theorem dX6_saysRead_141 : decode cX6_saysRead 141 = .ok (.bipush 6, 2) := dk_16 6 (dk_at dksX6_saysRead_6 4 rfl rfl)
theorem dX6_saysRead_143 : decode cX6_saysRead 143 = .ok (.if_icmp .ne 19, 3) := dk_160 0 19 (dk_at dksX6_saysRead_6 6 rfl rfl)
theorem dX6_saysRead_146 : decode cX6_saysRead 146 = .ok (.aload_n 0, 1) := dk_42 (dk_at dksX6_saysRead_6 9 rfl rfl)
theorem dX6_saysRead_147 : decode cX6_saysRead 147 = .ok (.aload_n 0, 1) := dk_42 (dk_at dksX6_saysRead_6 10 rfl rfl)
theorem dX6_saysRead_148 : decode cX6_saysRead 148 = .ok (.getfield 29, 3) := dk_180 0 29 (dk_at dksX6_saysRead_6 11 rfl rfl)
theorem dX6_saysRead_151 : decode cX6_saysRead 151 = .ok (.iconst 4, 1) := dk_7 (dk_at dksX6_saysRead_6 14 rfl rfl)
theorem dX6_saysRead_152 : decode cX6_saysRead 152 = .ok (.aload_n 0, 1) := dk_42 (dk_at dksX6_saysRead_6 15 rfl rfl)
theorem dX6_saysRead_153 : decode cX6_saysRead 153 = .ok (.getfield 189, 3) := dk_180 0 189 (dk_at dksX6_saysRead_6 16 rfl rfl)
theorem dX6_saysRead_156 : decode cX6_saysRead 156 = .ok (.invokevirtual 287, 3) := dk_182 1 31 (dk_at dksX6_saysRead_6 19 rfl rfl)
theorem dX6_saysRead_159 : decode cX6_saysRead 159 = .ok (.goto 17, 3) := dk_167 0 17 (dk_at dksX6_saysRead_7 0 rfl rfl)
theorem dX6_saysRead_162 : decode cX6_saysRead 162 = .ok (.aload_n 0, 1) := dk_42 (dk_at dksX6_saysRead_7 3 rfl rfl)
theorem dX6_saysRead_163 : decode cX6_saysRead 163 = .ok (.aload_n 0, 1) := dk_42 (dk_at dksX6_saysRead_7 4 rfl rfl)
theorem dX6_saysRead_164 : decode cX6_saysRead 164 = .ok (.getfield 57, 3) := dk_180 0 57 (dk_at dksX6_saysRead_7 5 rfl rfl)
theorem dX6_saysRead_167 : decode cX6_saysRead 167 = .ok (.bipush 6, 2) := dk_16 6 (dk_at dksX6_saysRead_7 8 rfl rfl)
theorem dX6_saysRead_169 : decode cX6_saysRead 169 = .ok (.aload_n 0, 1) := dk_42 (dk_at dksX6_saysRead_7 10 rfl rfl)
theorem dX6_saysRead_170 : decode cX6_saysRead 170 = .ok (.getfield 198, 3) := dk_180 0 198 (dk_at dksX6_saysRead_7 11 rfl rfl)
theorem dX6_saysRead_173 : decode cX6_saysRead 173 = .ok (.invokevirtual 287, 3) := dk_182 1 31 (dk_at dksX6_saysRead_7 14 rfl rfl)
theorem dX6_saysRead_176 : decode cX6_saysRead 176 = .ok (.istore_n 3, 1) := dk_62 (dk_at dksX6_saysRead_7 17 rfl rfl)
theorem dX6_saysRead_177 : decode cX6_saysRead 177 = .ok (.iload_n 3, 1) := dk_29 (dk_at dksX6_saysRead_7 18 rfl rfl)
theorem dX6_saysRead_178 : decode cX6_saysRead 178 = .ok (.ifCond .ne 5, 3) := dk_154 0 5 (dk_at dksX6_saysRead_7 19 rfl rfl)
theorem dX6_saysRead_181 : decode cX6_saysRead 181 = .ok (.iconst 0, 1) := dk_3 (dk_at dksX6_saysRead_7 22 rfl rfl)
theorem dX6_saysRead_182 : decode cX6_saysRead 182 = .ok (.ireturn, 1) := dk_172 (dk_at dksX6_saysRead_7 23 rfl rfl)
theorem dX6_saysRead_183 : decode cX6_saysRead 183 = .ok (.aload_n 0, 1) := dk_42 (dk_at dksX6_saysRead_8 0 rfl rfl)
theorem dX6_saysRead_184 : decode cX6_saysRead 184 = .ok (.getfield 60, 3) := dk_180 0 60 (dk_at dksX6_saysRead_8 1 rfl rfl)
theorem dX6_saysRead_187 : decode cX6_saysRead 187 = .ok (.iload_n 1, 1) := dk_27 (dk_at dksX6_saysRead_8 4 rfl rfl)
theorem dX6_saysRead_188 : decode cX6_saysRead 188 = .ok (.iconst 2, 1) := dk_5 (dk_at dksX6_saysRead_8 5 rfl rfl)
theorem dX6_saysRead_189 : decode cX6_saysRead 189 = .ok (.iadd, 1) := dk_96 (dk_at dksX6_saysRead_8 6 rfl rfl)
theorem dX6_saysRead_190 : decode cX6_saysRead 190 = .ok (.iload_n 2, 1) := dk_28 (dk_at dksX6_saysRead_8 7 rfl rfl)
theorem dX6_saysRead_191 : decode cX6_saysRead 191 = .ok (.iadd, 1) := dk_96 (dk_at dksX6_saysRead_8 8 rfl rfl)
theorem dX6_saysRead_192 : decode cX6_saysRead 192 = .ok (.aload_n 0, 1) := dk_42 (dk_at dksX6_saysRead_8 9 rfl rfl)
theorem dX6_saysRead_193 : decode cX6_saysRead 193 = .ok (.getfield 170, 3) := dk_180 0 170 (dk_at dksX6_saysRead_8 10 rfl rfl)
theorem dX6_saysRead_196 : decode cX6_saysRead 196 = .ok (.iastore, 1) := dk_79 (dk_at dksX6_saysRead_8 13 rfl rfl)
theorem dX6_saysRead_197 : decode cX6_saysRead 197 = .ok (.iload_n 2, 1) := dk_28 (dk_at dksX6_saysRead_8 14 rfl rfl)
theorem dX6_saysRead_198 : decode cX6_saysRead 198 = .ok (.bipush 7, 2) := dk_16 7 (dk_at dksX6_saysRead_8 15 rfl rfl)
theorem dX6_saysRead_200 : decode cX6_saysRead 200 = .ok (.if_icmp .ge 5, 3) := dk_162 0 5 (dk_at dksX6_saysRead_8 17 rfl rfl)
theorem dX6_saysRead_203 : decode cX6_saysRead 203 = .ok (.iconst 1, 1) := dk_4 (dk_at dksX6_saysRead_8 20 rfl rfl)
theorem dX6_saysRead_204 : decode cX6_saysRead 204 = .ok (.ireturn, 1) := dk_172 (dk_at dksX6_saysRead_8 21 rfl rfl)
theorem dX6_saysRead_205 : decode cX6_saysRead 205 = .ok (.aload_n 0, 1) := dk_42 (dk_at dksX6_saysRead_8 22 rfl rfl)
theorem dX6_saysRead_206 : decode cX6_saysRead 206 = .ok (.sipush 9999, 3) := dk_17 39 15 (dk_at dksX6_saysRead_9 0 rfl rfl)
theorem dX6_saysRead_209 : decode cX6_saysRead 209 = .ok (.invokevirtual 263, 3) := dk_182 1 7 (dk_at dksX6_saysRead_9 3 rfl rfl)
theorem dX6_saysRead_212 : decode cX6_saysRead 212 = .ok (.ifCond .ne 5, 3) := dk_154 0 5 (dk_at dksX6_saysRead_9 6 rfl rfl)
theorem dX6_saysRead_215 : decode cX6_saysRead 215 = .ok (.iconst 0, 1) := dk_3 (dk_at dksX6_saysRead_9 9 rfl rfl)
theorem dX6_saysRead_216 : decode cX6_saysRead 216 = .ok (.ireturn, 1) := dk_172 (dk_at dksX6_saysRead_9 10 rfl rfl)
theorem dX6_saysRead_217 : decode cX6_saysRead 217 = .ok (.aload_n 0, 1) := dk_42 (dk_at dksX6_saysRead_9 11 rfl rfl)
theorem dX6_saysRead_218 : decode cX6_saysRead 218 = .ok (.getfield 60, 3) := dk_180 0 60 (dk_at dksX6_saysRead_9 12 rfl rfl)
theorem dX6_saysRead_221 : decode cX6_saysRead 221 = .ok (.iload_n 1, 1) := dk_27 (dk_at dksX6_saysRead_9 15 rfl rfl)
theorem dX6_saysRead_222 : decode cX6_saysRead 222 = .ok (.bipush 10, 2) := dk_16 10 (dk_at dksX6_saysRead_9 16 rfl rfl)
theorem dX6_saysRead_224 : decode cX6_saysRead 224 = .ok (.iadd, 1) := dk_96 (dk_at dksX6_saysRead_9 18 rfl rfl)
theorem dX6_saysRead_225 : decode cX6_saysRead 225 = .ok (.aload_n 0, 1) := dk_42 (dk_at dksX6_saysRead_9 19 rfl rfl)
theorem dX6_saysRead_226 : decode cX6_saysRead 226 = .ok (.getfield 170, 3) := dk_180 0 170 (dk_at dksX6_saysRead_9 20 rfl rfl)
theorem dX6_saysRead_229 : decode cX6_saysRead 229 = .ok (.iastore, 1) := dk_79 (dk_at dksX6_saysRead_9 23 rfl rfl)
theorem dX6_saysRead_230 : decode cX6_saysRead 230 = .ok (.iconst 1, 1) := dk_4 (dk_at dksX6_saysRead_10 0 rfl rfl)
theorem dX6_saysRead_231 : decode cX6_saysRead 231 = .ok (.ireturn, 1) := dk_172 (dk_at dksX6_saysRead_10 1 rfl rfl)
abbrev cX6_sunLine : ByteArray := prog_20_method_30_code
def yX6_sunLine : MethodName := ⟨RX6, "sunLine", "()Z"⟩
def dkwX6_sunLine_1 : List UInt8 := [16, 12, 182, 1, 10, 172]
abbrev dktX6_sunLine_1 : List UInt8 := dkwX6_sunLine_1 ++ []
def dkwX6_sunLine_0 : List UInt8 := [42, 180, 0, 214, 153, 0, 9, 42, 6, 182, 0, 163, 172, 42, 4, 181, 0, 214, 42, 182, 0, 173, 42]
abbrev dktX6_sunLine_0 : List UInt8 := dkwX6_sunLine_0 ++ dktX6_sunLine_1
theorem dksX6_sunLine_0 : cX6_sunLine.data.toList.drop 0 = dktX6_sunLine_0 := by decide +kernel
theorem dksX6_sunLine_1 : cX6_sunLine.data.toList.drop 23 = dktX6_sunLine_1 := dk_seg dksX6_sunLine_0 23 rfl rfl
theorem dX6_sunLine_0 : decode cX6_sunLine 0 = .ok (.aload_n 0, 1) := dk_42 (dk_at dksX6_sunLine_0 0 rfl rfl)
theorem dX6_sunLine_1 : decode cX6_sunLine 1 = .ok (.getfield 214, 3) := dk_180 0 214 (dk_at dksX6_sunLine_0 1 rfl rfl)
theorem dX6_sunLine_4 : decode cX6_sunLine 4 = .ok (.ifCond .eq 9, 3) := dk_153 0 9 (dk_at dksX6_sunLine_0 4 rfl rfl)
theorem dX6_sunLine_7 : decode cX6_sunLine 7 = .ok (.aload_n 0, 1) := dk_42 (dk_at dksX6_sunLine_0 7 rfl rfl)
theorem dX6_sunLine_8 : decode cX6_sunLine 8 = .ok (.iconst 3, 1) := dk_6 (dk_at dksX6_sunLine_0 8 rfl rfl)
theorem dX6_sunLine_9 : decode cX6_sunLine 9 = .ok (.invokevirtual 163, 3) := dk_182 0 163 (dk_at dksX6_sunLine_0 9 rfl rfl)
theorem dX6_sunLine_12 : decode cX6_sunLine 12 = .ok (.ireturn, 1) := dk_172 (dk_at dksX6_sunLine_0 12 rfl rfl)
theorem dX6_sunLine_13 : decode cX6_sunLine 13 = .ok (.aload_n 0, 1) := dk_42 (dk_at dksX6_sunLine_0 13 rfl rfl)
theorem dX6_sunLine_14 : decode cX6_sunLine 14 = .ok (.iconst 1, 1) := dk_4 (dk_at dksX6_sunLine_0 14 rfl rfl)
theorem dX6_sunLine_15 : decode cX6_sunLine 15 = .ok (.putfield 214, 3) := dk_181 0 214 (dk_at dksX6_sunLine_0 15 rfl rfl)
theorem dX6_sunLine_18 : decode cX6_sunLine 18 = .ok (.aload_n 0, 1) := dk_42 (dk_at dksX6_sunLine_0 18 rfl rfl)
theorem dX6_sunLine_19 : decode cX6_sunLine 19 = .ok (.invokevirtual 173, 3) := dk_182 0 173 (dk_at dksX6_sunLine_0 19 rfl rfl)
theorem dX6_sunLine_22 : decode cX6_sunLine 22 = .ok (.aload_n 0, 1) := dk_42 (dk_at dksX6_sunLine_0 22 rfl rfl)
theorem dX6_sunLine_23 : decode cX6_sunLine 23 = .ok (.bipush 12, 2) := dk_16 12 (dk_at dksX6_sunLine_1 0 rfl rfl)
theorem dX6_sunLine_25 : decode cX6_sunLine 25 = .ok (.invokevirtual 266, 3) := dk_182 1 10 (dk_at dksX6_sunLine_1 2 rfl rfl)
theorem dX6_sunLine_28 : decode cX6_sunLine 28 = .ok (.ireturn, 1) := dk_172 (dk_at dksX6_sunLine_1 5 rfl rfl)
abbrev cX6_roundRead : ByteArray := prog_20_method_28_code
def yX6_roundRead : MethodName := ⟨RX6, "roundRead", "(I)Z"⟩
def dkwX6_roundRead_3 : List UInt8 := [79, 4, 172]
abbrev dktX6_roundRead_3 : List UInt8 := dkwX6_roundRead_3 ++ []
def dkwX6_roundRead_2 : List UInt8 := [167, 0, 5, 16, 99, 182, 0, 179, 154, 0, 5, 3, 172, 42, 180, 0, 20, 27, 4, 96, 42, 180, 0, 170]
abbrev dktX6_roundRead_2 : List UInt8 := dkwX6_roundRead_2 ++ dktX6_roundRead_3
def dkwX6_roundRead_1 : List UInt8 := [4, 42, 180, 0, 20, 27, 46, 16, 8, 108, 16, 99, 162, 0, 15, 42, 180, 0, 20, 27, 46, 16, 8, 108]
abbrev dktX6_roundRead_1 : List UInt8 := dkwX6_roundRead_1 ++ dktX6_roundRead_2
def dkwX6_roundRead_0 : List UInt8 := [42, 4, 17, 39, 15, 182, 0, 179, 154, 0, 5, 3, 172, 42, 180, 0, 20, 27, 42, 180, 0, 170, 79, 42]
abbrev dktX6_roundRead_0 : List UInt8 := dkwX6_roundRead_0 ++ dktX6_roundRead_1
theorem dksX6_roundRead_0 : cX6_roundRead.data.toList.drop 0 = dktX6_roundRead_0 := by decide +kernel
theorem dksX6_roundRead_1 : cX6_roundRead.data.toList.drop 24 = dktX6_roundRead_1 := dk_seg dksX6_roundRead_0 24 rfl rfl
theorem dksX6_roundRead_2 : cX6_roundRead.data.toList.drop 48 = dktX6_roundRead_2 := dk_seg dksX6_roundRead_1 24 rfl rfl
theorem dksX6_roundRead_3 : cX6_roundRead.data.toList.drop 72 = dktX6_roundRead_3 := dk_seg dksX6_roundRead_2 24 rfl rfl
theorem dX6_roundRead_0 : decode cX6_roundRead 0 = .ok (.aload_n 0, 1) := dk_42 (dk_at dksX6_roundRead_0 0 rfl rfl)
theorem dX6_roundRead_1 : decode cX6_roundRead 1 = .ok (.iconst 1, 1) := dk_4 (dk_at dksX6_roundRead_0 1 rfl rfl)
theorem dX6_roundRead_2 : decode cX6_roundRead 2 = .ok (.sipush 9999, 3) := dk_17 39 15 (dk_at dksX6_roundRead_0 2 rfl rfl)
theorem dX6_roundRead_5 : decode cX6_roundRead 5 = .ok (.invokevirtual 179, 3) := dk_182 0 179 (dk_at dksX6_roundRead_0 5 rfl rfl)
theorem dX6_roundRead_8 : decode cX6_roundRead 8 = .ok (.ifCond .ne 5, 3) := dk_154 0 5 (dk_at dksX6_roundRead_0 8 rfl rfl)
theorem dX6_roundRead_11 : decode cX6_roundRead 11 = .ok (.iconst 0, 1) := dk_3 (dk_at dksX6_roundRead_0 11 rfl rfl)
theorem dX6_roundRead_12 : decode cX6_roundRead 12 = .ok (.ireturn, 1) := dk_172 (dk_at dksX6_roundRead_0 12 rfl rfl)
theorem dX6_roundRead_13 : decode cX6_roundRead 13 = .ok (.aload_n 0, 1) := dk_42 (dk_at dksX6_roundRead_0 13 rfl rfl)
theorem dX6_roundRead_14 : decode cX6_roundRead 14 = .ok (.getfield 20, 3) := dk_180 0 20 (dk_at dksX6_roundRead_0 14 rfl rfl)
theorem dX6_roundRead_17 : decode cX6_roundRead 17 = .ok (.iload_n 1, 1) := dk_27 (dk_at dksX6_roundRead_0 17 rfl rfl)
theorem dX6_roundRead_18 : decode cX6_roundRead 18 = .ok (.aload_n 0, 1) := dk_42 (dk_at dksX6_roundRead_0 18 rfl rfl)
theorem dX6_roundRead_19 : decode cX6_roundRead 19 = .ok (.getfield 170, 3) := dk_180 0 170 (dk_at dksX6_roundRead_0 19 rfl rfl)
theorem dX6_roundRead_22 : decode cX6_roundRead 22 = .ok (.iastore, 1) := dk_79 (dk_at dksX6_roundRead_0 22 rfl rfl)
theorem dX6_roundRead_23 : decode cX6_roundRead 23 = .ok (.aload_n 0, 1) := dk_42 (dk_at dksX6_roundRead_0 23 rfl rfl)
theorem dX6_roundRead_24 : decode cX6_roundRead 24 = .ok (.iconst 1, 1) := dk_4 (dk_at dksX6_roundRead_1 0 rfl rfl)
theorem dX6_roundRead_25 : decode cX6_roundRead 25 = .ok (.aload_n 0, 1) := dk_42 (dk_at dksX6_roundRead_1 1 rfl rfl)
theorem dX6_roundRead_26 : decode cX6_roundRead 26 = .ok (.getfield 20, 3) := dk_180 0 20 (dk_at dksX6_roundRead_1 2 rfl rfl)
theorem dX6_roundRead_29 : decode cX6_roundRead 29 = .ok (.iload_n 1, 1) := dk_27 (dk_at dksX6_roundRead_1 5 rfl rfl)
theorem dX6_roundRead_30 : decode cX6_roundRead 30 = .ok (.iaload, 1) := dk_46 (dk_at dksX6_roundRead_1 6 rfl rfl)
theorem dX6_roundRead_31 : decode cX6_roundRead 31 = .ok (.bipush 8, 2) := dk_16 8 (dk_at dksX6_roundRead_1 7 rfl rfl)
theorem dX6_roundRead_33 : decode cX6_roundRead 33 = .ok (.idiv, 1) := dk_108 (dk_at dksX6_roundRead_1 9 rfl rfl)
theorem dX6_roundRead_34 : decode cX6_roundRead 34 = .ok (.bipush 99, 2) := dk_16 99 (dk_at dksX6_roundRead_1 10 rfl rfl)
theorem dX6_roundRead_36 : decode cX6_roundRead 36 = .ok (.if_icmp .ge 15, 3) := dk_162 0 15 (dk_at dksX6_roundRead_1 12 rfl rfl)
theorem dX6_roundRead_39 : decode cX6_roundRead 39 = .ok (.aload_n 0, 1) := dk_42 (dk_at dksX6_roundRead_1 15 rfl rfl)
theorem dX6_roundRead_40 : decode cX6_roundRead 40 = .ok (.getfield 20, 3) := dk_180 0 20 (dk_at dksX6_roundRead_1 16 rfl rfl)
theorem dX6_roundRead_43 : decode cX6_roundRead 43 = .ok (.iload_n 1, 1) := dk_27 (dk_at dksX6_roundRead_1 19 rfl rfl)
theorem dX6_roundRead_44 : decode cX6_roundRead 44 = .ok (.iaload, 1) := dk_46 (dk_at dksX6_roundRead_1 20 rfl rfl)
theorem dX6_roundRead_45 : decode cX6_roundRead 45 = .ok (.bipush 8, 2) := dk_16 8 (dk_at dksX6_roundRead_1 21 rfl rfl)
theorem dX6_roundRead_47 : decode cX6_roundRead 47 = .ok (.idiv, 1) := dk_108 (dk_at dksX6_roundRead_1 23 rfl rfl)
theorem dX6_roundRead_48 : decode cX6_roundRead 48 = .ok (.goto 5, 3) := dk_167 0 5 (dk_at dksX6_roundRead_2 0 rfl rfl)
theorem dX6_roundRead_51 : decode cX6_roundRead 51 = .ok (.bipush 99, 2) := dk_16 99 (dk_at dksX6_roundRead_2 3 rfl rfl)
theorem dX6_roundRead_53 : decode cX6_roundRead 53 = .ok (.invokevirtual 179, 3) := dk_182 0 179 (dk_at dksX6_roundRead_2 5 rfl rfl)
theorem dX6_roundRead_56 : decode cX6_roundRead 56 = .ok (.ifCond .ne 5, 3) := dk_154 0 5 (dk_at dksX6_roundRead_2 8 rfl rfl)
theorem dX6_roundRead_59 : decode cX6_roundRead 59 = .ok (.iconst 0, 1) := dk_3 (dk_at dksX6_roundRead_2 11 rfl rfl)
theorem dX6_roundRead_60 : decode cX6_roundRead 60 = .ok (.ireturn, 1) := dk_172 (dk_at dksX6_roundRead_2 12 rfl rfl)
theorem dX6_roundRead_61 : decode cX6_roundRead 61 = .ok (.aload_n 0, 1) := dk_42 (dk_at dksX6_roundRead_2 13 rfl rfl)
theorem dX6_roundRead_62 : decode cX6_roundRead 62 = .ok (.getfield 20, 3) := dk_180 0 20 (dk_at dksX6_roundRead_2 14 rfl rfl)
theorem dX6_roundRead_65 : decode cX6_roundRead 65 = .ok (.iload_n 1, 1) := dk_27 (dk_at dksX6_roundRead_2 17 rfl rfl)
theorem dX6_roundRead_66 : decode cX6_roundRead 66 = .ok (.iconst 1, 1) := dk_4 (dk_at dksX6_roundRead_2 18 rfl rfl)
theorem dX6_roundRead_67 : decode cX6_roundRead 67 = .ok (.iadd, 1) := dk_96 (dk_at dksX6_roundRead_2 19 rfl rfl)
theorem dX6_roundRead_68 : decode cX6_roundRead 68 = .ok (.aload_n 0, 1) := dk_42 (dk_at dksX6_roundRead_2 20 rfl rfl)
theorem dX6_roundRead_69 : decode cX6_roundRead 69 = .ok (.getfield 170, 3) := dk_180 0 170 (dk_at dksX6_roundRead_2 21 rfl rfl)
theorem dX6_roundRead_72 : decode cX6_roundRead 72 = .ok (.iastore, 1) := dk_79 (dk_at dksX6_roundRead_3 0 rfl rfl)
theorem dX6_roundRead_73 : decode cX6_roundRead 73 = .ok (.iconst 1, 1) := dk_4 (dk_at dksX6_roundRead_3 1 rfl rfl)
theorem dX6_roundRead_74 : decode cX6_roundRead 74 = .ok (.ireturn, 1) := dk_172 (dk_at dksX6_roundRead_3 2 rfl rfl)
abbrev cX6_weekLine : ByteArray := prog_20_method_27_code
def yX6_weekLine : MethodName := ⟨RX6, "weekLine", "()Z"⟩
def dkwX6_weekLine_3 : List UInt8 := [180, 0, 170, 79, 4, 172]
abbrev dktX6_weekLine_3 : List UInt8 := dkwX6_weekLine_3 ++ []
def dkwX6_weekLine_2 : List UInt8 := [180, 0, 20, 16, 7, 46, 4, 100, 182, 0, 179, 154, 0, 5, 3, 172, 42, 180, 0, 20, 16, 8, 42]
abbrev dktX6_weekLine_2 : List UInt8 := dkwX6_weekLine_2 ++ dktX6_weekLine_3
def dkwX6_weekLine_1 : List UInt8 := [16, 30, 182, 0, 179, 154, 0, 5, 3, 172, 42, 180, 0, 20, 16, 7, 42, 180, 0, 170, 79, 42, 3, 42]
abbrev dktX6_weekLine_1 : List UInt8 := dkwX6_weekLine_1 ++ dktX6_weekLine_2
def dkwX6_weekLine_0 : List UInt8 := [42, 180, 0, 207, 153, 0, 9, 42, 6, 182, 0, 163, 172, 42, 4, 181, 0, 207, 42, 182, 0, 173, 42, 5]
abbrev dktX6_weekLine_0 : List UInt8 := dkwX6_weekLine_0 ++ dktX6_weekLine_1
theorem dksX6_weekLine_0 : cX6_weekLine.data.toList.drop 0 = dktX6_weekLine_0 := by decide +kernel
theorem dksX6_weekLine_1 : cX6_weekLine.data.toList.drop 24 = dktX6_weekLine_1 := dk_seg dksX6_weekLine_0 24 rfl rfl
theorem dksX6_weekLine_2 : cX6_weekLine.data.toList.drop 48 = dktX6_weekLine_2 := dk_seg dksX6_weekLine_1 24 rfl rfl
theorem dksX6_weekLine_3 : cX6_weekLine.data.toList.drop 71 = dktX6_weekLine_3 := dk_seg dksX6_weekLine_2 23 rfl rfl
theorem dX6_weekLine_0 : decode cX6_weekLine 0 = .ok (.aload_n 0, 1) := dk_42 (dk_at dksX6_weekLine_0 0 rfl rfl)
theorem dX6_weekLine_1 : decode cX6_weekLine 1 = .ok (.getfield 207, 3) := dk_180 0 207 (dk_at dksX6_weekLine_0 1 rfl rfl)
theorem dX6_weekLine_4 : decode cX6_weekLine 4 = .ok (.ifCond .eq 9, 3) := dk_153 0 9 (dk_at dksX6_weekLine_0 4 rfl rfl)
theorem dX6_weekLine_7 : decode cX6_weekLine 7 = .ok (.aload_n 0, 1) := dk_42 (dk_at dksX6_weekLine_0 7 rfl rfl)
theorem dX6_weekLine_8 : decode cX6_weekLine 8 = .ok (.iconst 3, 1) := dk_6 (dk_at dksX6_weekLine_0 8 rfl rfl)
theorem dX6_weekLine_9 : decode cX6_weekLine 9 = .ok (.invokevirtual 163, 3) := dk_182 0 163 (dk_at dksX6_weekLine_0 9 rfl rfl)
theorem dX6_weekLine_12 : decode cX6_weekLine 12 = .ok (.ireturn, 1) := dk_172 (dk_at dksX6_weekLine_0 12 rfl rfl)
theorem dX6_weekLine_13 : decode cX6_weekLine 13 = .ok (.aload_n 0, 1) := dk_42 (dk_at dksX6_weekLine_0 13 rfl rfl)
theorem dX6_weekLine_14 : decode cX6_weekLine 14 = .ok (.iconst 1, 1) := dk_4 (dk_at dksX6_weekLine_0 14 rfl rfl)
theorem dX6_weekLine_15 : decode cX6_weekLine 15 = .ok (.putfield 207, 3) := dk_181 0 207 (dk_at dksX6_weekLine_0 15 rfl rfl)
theorem dX6_weekLine_18 : decode cX6_weekLine 18 = .ok (.aload_n 0, 1) := dk_42 (dk_at dksX6_weekLine_0 18 rfl rfl)
theorem dX6_weekLine_19 : decode cX6_weekLine 19 = .ok (.invokevirtual 173, 3) := dk_182 0 173 (dk_at dksX6_weekLine_0 19 rfl rfl)
theorem dX6_weekLine_22 : decode cX6_weekLine 22 = .ok (.aload_n 0, 1) := dk_42 (dk_at dksX6_weekLine_0 22 rfl rfl)
theorem dX6_weekLine_23 : decode cX6_weekLine 23 = .ok (.iconst 2, 1) := dk_5 (dk_at dksX6_weekLine_0 23 rfl rfl)
theorem dX6_weekLine_24 : decode cX6_weekLine 24 = .ok (.bipush 30, 2) := dk_16 30 (dk_at dksX6_weekLine_1 0 rfl rfl)
theorem dX6_weekLine_26 : decode cX6_weekLine 26 = .ok (.invokevirtual 179, 3) := dk_182 0 179 (dk_at dksX6_weekLine_1 2 rfl rfl)
theorem dX6_weekLine_29 : decode cX6_weekLine 29 = .ok (.ifCond .ne 5, 3) := dk_154 0 5 (dk_at dksX6_weekLine_1 5 rfl rfl)
theorem dX6_weekLine_32 : decode cX6_weekLine 32 = .ok (.iconst 0, 1) := dk_3 (dk_at dksX6_weekLine_1 8 rfl rfl)
theorem dX6_weekLine_33 : decode cX6_weekLine 33 = .ok (.ireturn, 1) := dk_172 (dk_at dksX6_weekLine_1 9 rfl rfl)
theorem dX6_weekLine_34 : decode cX6_weekLine 34 = .ok (.aload_n 0, 1) := dk_42 (dk_at dksX6_weekLine_1 10 rfl rfl)
theorem dX6_weekLine_35 : decode cX6_weekLine 35 = .ok (.getfield 20, 3) := dk_180 0 20 (dk_at dksX6_weekLine_1 11 rfl rfl)
theorem dX6_weekLine_38 : decode cX6_weekLine 38 = .ok (.bipush 7, 2) := dk_16 7 (dk_at dksX6_weekLine_1 14 rfl rfl)
theorem dX6_weekLine_40 : decode cX6_weekLine 40 = .ok (.aload_n 0, 1) := dk_42 (dk_at dksX6_weekLine_1 16 rfl rfl)
theorem dX6_weekLine_41 : decode cX6_weekLine 41 = .ok (.getfield 170, 3) := dk_180 0 170 (dk_at dksX6_weekLine_1 17 rfl rfl)
theorem dX6_weekLine_44 : decode cX6_weekLine 44 = .ok (.iastore, 1) := dk_79 (dk_at dksX6_weekLine_1 20 rfl rfl)
theorem dX6_weekLine_45 : decode cX6_weekLine 45 = .ok (.aload_n 0, 1) := dk_42 (dk_at dksX6_weekLine_1 21 rfl rfl)
theorem dX6_weekLine_46 : decode cX6_weekLine 46 = .ok (.iconst 0, 1) := dk_3 (dk_at dksX6_weekLine_1 22 rfl rfl)
theorem dX6_weekLine_47 : decode cX6_weekLine 47 = .ok (.aload_n 0, 1) := dk_42 (dk_at dksX6_weekLine_1 23 rfl rfl)
theorem dX6_weekLine_48 : decode cX6_weekLine 48 = .ok (.getfield 20, 3) := dk_180 0 20 (dk_at dksX6_weekLine_2 0 rfl rfl)
theorem dX6_weekLine_51 : decode cX6_weekLine 51 = .ok (.bipush 7, 2) := dk_16 7 (dk_at dksX6_weekLine_2 3 rfl rfl)
theorem dX6_weekLine_53 : decode cX6_weekLine 53 = .ok (.iaload, 1) := dk_46 (dk_at dksX6_weekLine_2 5 rfl rfl)
theorem dX6_weekLine_54 : decode cX6_weekLine 54 = .ok (.iconst 1, 1) := dk_4 (dk_at dksX6_weekLine_2 6 rfl rfl)
theorem dX6_weekLine_55 : decode cX6_weekLine 55 = .ok (.isub, 1) := dk_100 (dk_at dksX6_weekLine_2 7 rfl rfl)
theorem dX6_weekLine_56 : decode cX6_weekLine 56 = .ok (.invokevirtual 179, 3) := dk_182 0 179 (dk_at dksX6_weekLine_2 8 rfl rfl)
theorem dX6_weekLine_59 : decode cX6_weekLine 59 = .ok (.ifCond .ne 5, 3) := dk_154 0 5 (dk_at dksX6_weekLine_2 11 rfl rfl)
theorem dX6_weekLine_62 : decode cX6_weekLine 62 = .ok (.iconst 0, 1) := dk_3 (dk_at dksX6_weekLine_2 14 rfl rfl)
theorem dX6_weekLine_63 : decode cX6_weekLine 63 = .ok (.ireturn, 1) := dk_172 (dk_at dksX6_weekLine_2 15 rfl rfl)
theorem dX6_weekLine_64 : decode cX6_weekLine 64 = .ok (.aload_n 0, 1) := dk_42 (dk_at dksX6_weekLine_2 16 rfl rfl)
theorem dX6_weekLine_65 : decode cX6_weekLine 65 = .ok (.getfield 20, 3) := dk_180 0 20 (dk_at dksX6_weekLine_2 17 rfl rfl)
theorem dX6_weekLine_68 : decode cX6_weekLine 68 = .ok (.bipush 8, 2) := dk_16 8 (dk_at dksX6_weekLine_2 20 rfl rfl)
theorem dX6_weekLine_70 : decode cX6_weekLine 70 = .ok (.aload_n 0, 1) := dk_42 (dk_at dksX6_weekLine_2 22 rfl rfl)
theorem dX6_weekLine_71 : decode cX6_weekLine 71 = .ok (.getfield 170, 3) := dk_180 0 170 (dk_at dksX6_weekLine_3 0 rfl rfl)
theorem dX6_weekLine_74 : decode cX6_weekLine 74 = .ok (.iastore, 1) := dk_79 (dk_at dksX6_weekLine_3 3 rfl rfl)
theorem dX6_weekLine_75 : decode cX6_weekLine 75 = .ok (.iconst 1, 1) := dk_4 (dk_at dksX6_weekLine_3 4 rfl rfl)
theorem dX6_weekLine_76 : decode cX6_weekLine 76 = .ok (.ireturn, 1) := dk_172 (dk_at dksX6_weekLine_3 5 rfl rfl)
abbrev cX6_moonLine : ByteArray := prog_20_method_29_code
def yX6_moonLine : MethodName := ⟨RX6, "moonLine", "()Z"⟩
def dkwX6_moonLine_2 : List UInt8 := [154, 0, 5, 3, 172, 42, 180, 0, 20, 16, 11, 42, 180, 0, 170, 79, 4, 172]
abbrev dktX6_moonLine_2 : List UInt8 := dkwX6_moonLine_2 ++ []
def dkwX6_moonLine_1 : List UInt8 := [16, 9, 182, 1, 10, 153, 0, 20, 42, 3, 42, 180, 0, 20, 16, 9, 46, 4, 100, 182, 0, 179]
abbrev dktX6_moonLine_1 : List UInt8 := dkwX6_moonLine_1 ++ dktX6_moonLine_2
def dkwX6_moonLine_0 : List UInt8 := [42, 180, 0, 211, 153, 0, 9, 42, 6, 182, 0, 163, 172, 42, 4, 181, 0, 211, 42, 182, 0, 173, 42]
abbrev dktX6_moonLine_0 : List UInt8 := dkwX6_moonLine_0 ++ dktX6_moonLine_1
theorem dksX6_moonLine_0 : cX6_moonLine.data.toList.drop 0 = dktX6_moonLine_0 := by decide +kernel
theorem dksX6_moonLine_1 : cX6_moonLine.data.toList.drop 23 = dktX6_moonLine_1 := dk_seg dksX6_moonLine_0 23 rfl rfl
theorem dksX6_moonLine_2 : cX6_moonLine.data.toList.drop 45 = dktX6_moonLine_2 := dk_seg dksX6_moonLine_1 22 rfl rfl
theorem dX6_moonLine_0 : decode cX6_moonLine 0 = .ok (.aload_n 0, 1) := dk_42 (dk_at dksX6_moonLine_0 0 rfl rfl)
theorem dX6_moonLine_1 : decode cX6_moonLine 1 = .ok (.getfield 211, 3) := dk_180 0 211 (dk_at dksX6_moonLine_0 1 rfl rfl)
theorem dX6_moonLine_4 : decode cX6_moonLine 4 = .ok (.ifCond .eq 9, 3) := dk_153 0 9 (dk_at dksX6_moonLine_0 4 rfl rfl)
theorem dX6_moonLine_7 : decode cX6_moonLine 7 = .ok (.aload_n 0, 1) := dk_42 (dk_at dksX6_moonLine_0 7 rfl rfl)
theorem dX6_moonLine_8 : decode cX6_moonLine 8 = .ok (.iconst 3, 1) := dk_6 (dk_at dksX6_moonLine_0 8 rfl rfl)
theorem dX6_moonLine_9 : decode cX6_moonLine 9 = .ok (.invokevirtual 163, 3) := dk_182 0 163 (dk_at dksX6_moonLine_0 9 rfl rfl)
theorem dX6_moonLine_12 : decode cX6_moonLine 12 = .ok (.ireturn, 1) := dk_172 (dk_at dksX6_moonLine_0 12 rfl rfl)
theorem dX6_moonLine_13 : decode cX6_moonLine 13 = .ok (.aload_n 0, 1) := dk_42 (dk_at dksX6_moonLine_0 13 rfl rfl)
theorem dX6_moonLine_14 : decode cX6_moonLine 14 = .ok (.iconst 1, 1) := dk_4 (dk_at dksX6_moonLine_0 14 rfl rfl)
theorem dX6_moonLine_15 : decode cX6_moonLine 15 = .ok (.putfield 211, 3) := dk_181 0 211 (dk_at dksX6_moonLine_0 15 rfl rfl)
theorem dX6_moonLine_18 : decode cX6_moonLine 18 = .ok (.aload_n 0, 1) := dk_42 (dk_at dksX6_moonLine_0 18 rfl rfl)
theorem dX6_moonLine_19 : decode cX6_moonLine 19 = .ok (.invokevirtual 173, 3) := dk_182 0 173 (dk_at dksX6_moonLine_0 19 rfl rfl)
theorem dX6_moonLine_22 : decode cX6_moonLine 22 = .ok (.aload_n 0, 1) := dk_42 (dk_at dksX6_moonLine_0 22 rfl rfl)
theorem dX6_moonLine_23 : decode cX6_moonLine 23 = .ok (.bipush 9, 2) := dk_16 9 (dk_at dksX6_moonLine_1 0 rfl rfl)
theorem dX6_moonLine_25 : decode cX6_moonLine 25 = .ok (.invokevirtual 266, 3) := dk_182 1 10 (dk_at dksX6_moonLine_1 2 rfl rfl)
theorem dX6_moonLine_28 : decode cX6_moonLine 28 = .ok (.ifCond .eq 20, 3) := dk_153 0 20 (dk_at dksX6_moonLine_1 5 rfl rfl)
theorem dX6_moonLine_31 : decode cX6_moonLine 31 = .ok (.aload_n 0, 1) := dk_42 (dk_at dksX6_moonLine_1 8 rfl rfl)
theorem dX6_moonLine_32 : decode cX6_moonLine 32 = .ok (.iconst 0, 1) := dk_3 (dk_at dksX6_moonLine_1 9 rfl rfl)
theorem dX6_moonLine_33 : decode cX6_moonLine 33 = .ok (.aload_n 0, 1) := dk_42 (dk_at dksX6_moonLine_1 10 rfl rfl)
theorem dX6_moonLine_34 : decode cX6_moonLine 34 = .ok (.getfield 20, 3) := dk_180 0 20 (dk_at dksX6_moonLine_1 11 rfl rfl)
theorem dX6_moonLine_37 : decode cX6_moonLine 37 = .ok (.bipush 9, 2) := dk_16 9 (dk_at dksX6_moonLine_1 14 rfl rfl)
theorem dX6_moonLine_39 : decode cX6_moonLine 39 = .ok (.iaload, 1) := dk_46 (dk_at dksX6_moonLine_1 16 rfl rfl)
theorem dX6_moonLine_40 : decode cX6_moonLine 40 = .ok (.iconst 1, 1) := dk_4 (dk_at dksX6_moonLine_1 17 rfl rfl)
theorem dX6_moonLine_41 : decode cX6_moonLine 41 = .ok (.isub, 1) := dk_100 (dk_at dksX6_moonLine_1 18 rfl rfl)
theorem dX6_moonLine_42 : decode cX6_moonLine 42 = .ok (.invokevirtual 179, 3) := dk_182 0 179 (dk_at dksX6_moonLine_1 19 rfl rfl)
theorem dX6_moonLine_45 : decode cX6_moonLine 45 = .ok (.ifCond .ne 5, 3) := dk_154 0 5 (dk_at dksX6_moonLine_2 0 rfl rfl)
theorem dX6_moonLine_48 : decode cX6_moonLine 48 = .ok (.iconst 0, 1) := dk_3 (dk_at dksX6_moonLine_2 3 rfl rfl)
theorem dX6_moonLine_49 : decode cX6_moonLine 49 = .ok (.ireturn, 1) := dk_172 (dk_at dksX6_moonLine_2 4 rfl rfl)
theorem dX6_moonLine_50 : decode cX6_moonLine 50 = .ok (.aload_n 0, 1) := dk_42 (dk_at dksX6_moonLine_2 5 rfl rfl)
theorem dX6_moonLine_51 : decode cX6_moonLine 51 = .ok (.getfield 20, 3) := dk_180 0 20 (dk_at dksX6_moonLine_2 6 rfl rfl)
theorem dX6_moonLine_54 : decode cX6_moonLine 54 = .ok (.bipush 11, 2) := dk_16 11 (dk_at dksX6_moonLine_2 9 rfl rfl)
theorem dX6_moonLine_56 : decode cX6_moonLine 56 = .ok (.aload_n 0, 1) := dk_42 (dk_at dksX6_moonLine_2 11 rfl rfl)
theorem dX6_moonLine_57 : decode cX6_moonLine 57 = .ok (.getfield 170, 3) := dk_180 0 170 (dk_at dksX6_moonLine_2 12 rfl rfl)
theorem dX6_moonLine_60 : decode cX6_moonLine 60 = .ok (.iastore, 1) := dk_79 (dk_at dksX6_moonLine_2 15 rfl rfl)
theorem dX6_moonLine_61 : decode cX6_moonLine 61 = .ok (.iconst 1, 1) := dk_4 (dk_at dksX6_moonLine_2 16 rfl rfl)
theorem dX6_moonLine_62 : decode cX6_moonLine 62 = .ok (.ireturn, 1) := dk_172 (dk_at dksX6_moonLine_2 17 rfl rfl)
abbrev cX6_fault : ByteArray := prog_20_method_40_code
def yX6_fault : MethodName := ⟨RX6, "fault", "(I)I"⟩
def dkwX6_fault_1 : List UInt8 := [180, 0, 16, 167, 0, 4, 2, 172]
abbrev dktX6_fault_1 : List UInt8 := dkwX6_fault_1 ++ []
def dkwX6_fault_0 : List UInt8 := [42, 3, 181, 0, 119, 27, 154, 0, 10, 42, 180, 0, 127, 167, 0, 16, 27, 4, 160, 0, 10, 42]
abbrev dktX6_fault_0 : List UInt8 := dkwX6_fault_0 ++ dktX6_fault_1
theorem dksX6_fault_0 : cX6_fault.data.toList.drop 0 = dktX6_fault_0 := by decide +kernel
theorem dksX6_fault_1 : cX6_fault.data.toList.drop 22 = dktX6_fault_1 := dk_seg dksX6_fault_0 22 rfl rfl
theorem dX6_fault_0 : decode cX6_fault 0 = .ok (.aload_n 0, 1) := dk_42 (dk_at dksX6_fault_0 0 rfl rfl)
theorem dX6_fault_1 : decode cX6_fault 1 = .ok (.iconst 0, 1) := dk_3 (dk_at dksX6_fault_0 1 rfl rfl)
theorem dX6_fault_2 : decode cX6_fault 2 = .ok (.putfield 119, 3) := dk_181 0 119 (dk_at dksX6_fault_0 2 rfl rfl)
theorem dX6_fault_5 : decode cX6_fault 5 = .ok (.iload_n 1, 1) := dk_27 (dk_at dksX6_fault_0 5 rfl rfl)
theorem dX6_fault_6 : decode cX6_fault 6 = .ok (.ifCond .ne 10, 3) := dk_154 0 10 (dk_at dksX6_fault_0 6 rfl rfl)
theorem dX6_fault_9 : decode cX6_fault 9 = .ok (.aload_n 0, 1) := dk_42 (dk_at dksX6_fault_0 9 rfl rfl)
theorem dX6_fault_10 : decode cX6_fault 10 = .ok (.getfield 127, 3) := dk_180 0 127 (dk_at dksX6_fault_0 10 rfl rfl)
theorem dX6_fault_13 : decode cX6_fault 13 = .ok (.goto 16, 3) := dk_167 0 16 (dk_at dksX6_fault_0 13 rfl rfl)
theorem dX6_fault_16 : decode cX6_fault 16 = .ok (.iload_n 1, 1) := dk_27 (dk_at dksX6_fault_0 16 rfl rfl)
theorem dX6_fault_17 : decode cX6_fault 17 = .ok (.iconst 1, 1) := dk_4 (dk_at dksX6_fault_0 17 rfl rfl)
theorem dX6_fault_18 : decode cX6_fault 18 = .ok (.if_icmp .ne 10, 3) := dk_160 0 10 (dk_at dksX6_fault_0 18 rfl rfl)
theorem dX6_fault_21 : decode cX6_fault 21 = .ok (.aload_n 0, 1) := dk_42 (dk_at dksX6_fault_0 21 rfl rfl)
theorem dX6_fault_22 : decode cX6_fault 22 = .ok (.getfield 16, 3) := dk_180 0 16 (dk_at dksX6_fault_1 0 rfl rfl)
theorem dX6_fault_25 : decode cX6_fault 25 = .ok (.goto 4, 3) := dk_167 0 4 (dk_at dksX6_fault_1 3 rfl rfl)
theorem dX6_fault_28 : decode cX6_fault 28 = .ok (.iconst (-1), 1) := dk_2 (dk_at dksX6_fault_1 6 rfl rfl)
theorem dX6_fault_29 : decode cX6_fault 29 = .ok (.ireturn, 1) := dk_172 (dk_at dksX6_fault_1 7 rfl rfl)
abbrev cX6_named : ByteArray := prog_20_method_41_code
def yX6_named : MethodName := ⟨RX6, "named", "(II)I"⟩
def dkwX6_named_4 : List UInt8 := [180, 0, 226, 28, 184, 0, 255, 172, 42, 180, 0, 57, 3, 42, 180, 0, 243, 28, 184, 0, 255, 172, 2, 172]
abbrev dktX6_named_4 : List UInt8 := dkwX6_named_4 ++ []
def dkwX6_named_3 : List UInt8 := [184, 0, 255, 172, 42, 180, 0, 38, 3, 42, 180, 0, 223, 28, 184, 0, 255, 172, 42, 180, 0, 48, 3, 42]
abbrev dktX6_named_3 : List UInt8 := dkwX6_named_3 ++ dktX6_named_4
def dkwX6_named_2 : List UInt8 := [42, 180, 0, 23, 3, 42, 180, 0, 217, 28, 184, 0, 255, 172, 42, 180, 0, 29, 3, 42, 180, 0, 220, 28]
abbrev dktX6_named_2 : List UInt8 := dkwX6_named_2 ++ dktX6_named_3
def dkwX6_named_1 : List UInt8 := [170, 0, 0, 0, 0, 104, 0, 0, 0, 0, 0, 0, 0, 4, 0, 0, 0, 34, 0, 0, 0, 48, 0, 0, 0, 62, 0, 0, 0, 76, 0, 0, 0, 90]
abbrev dktX6_named_1 : List UInt8 := dkwX6_named_1 ++ dktX6_named_2
def dkwX6_named_0 : List UInt8 := [42, 3, 181, 0, 119, 27]
abbrev dktX6_named_0 : List UInt8 := dkwX6_named_0 ++ dktX6_named_1
theorem dksX6_named_0 : cX6_named.data.toList.drop 0 = dktX6_named_0 := by decide +kernel
theorem dksX6_named_1 : cX6_named.data.toList.drop 6 = dktX6_named_1 := dk_seg dksX6_named_0 6 rfl rfl
theorem dksX6_named_2 : cX6_named.data.toList.drop 40 = dktX6_named_2 := dk_seg dksX6_named_1 34 rfl rfl
theorem dksX6_named_3 : cX6_named.data.toList.drop 64 = dktX6_named_3 := dk_seg dksX6_named_2 24 rfl rfl
theorem dksX6_named_4 : cX6_named.data.toList.drop 88 = dktX6_named_4 := dk_seg dksX6_named_3 24 rfl rfl
theorem dX6_named_0 : decode cX6_named 0 = .ok (.aload_n 0, 1) := dk_42 (dk_at dksX6_named_0 0 rfl rfl)
theorem dX6_named_1 : decode cX6_named 1 = .ok (.iconst 0, 1) := dk_3 (dk_at dksX6_named_0 1 rfl rfl)
theorem dX6_named_2 : decode cX6_named 2 = .ok (.putfield 119, 3) := dk_181 0 119 (dk_at dksX6_named_0 2 rfl rfl)
theorem dX6_named_5 : decode cX6_named 5 = .ok (.iload_n 1, 1) := dk_27 (dk_at dksX6_named_0 5 rfl rfl)
theorem dX6_named_6 : decode cX6_named 6 = .ok (.tableswitch 104 0 4 #[34, 48, 62, 76, 90], 34) := by decide +kernel
theorem dX6_named_40 : decode cX6_named 40 = .ok (.aload_n 0, 1) := dk_42 (dk_at dksX6_named_2 0 rfl rfl)
theorem dX6_named_41 : decode cX6_named 41 = .ok (.getfield 23, 3) := dk_180 0 23 (dk_at dksX6_named_2 1 rfl rfl)
theorem dX6_named_44 : decode cX6_named 44 = .ok (.iconst 0, 1) := dk_3 (dk_at dksX6_named_2 4 rfl rfl)
theorem dX6_named_45 : decode cX6_named 45 = .ok (.aload_n 0, 1) := dk_42 (dk_at dksX6_named_2 5 rfl rfl)
theorem dX6_named_46 : decode cX6_named 46 = .ok (.getfield 217, 3) := dk_180 0 217 (dk_at dksX6_named_2 6 rfl rfl)
theorem dX6_named_49 : decode cX6_named 49 = .ok (.iload_n 2, 1) := dk_28 (dk_at dksX6_named_2 9 rfl rfl)
theorem dX6_named_50 : decode cX6_named 50 = .ok (.invokestatic 255, 3) := dk_184 0 255 (dk_at dksX6_named_2 10 rfl rfl)
theorem dX6_named_53 : decode cX6_named 53 = .ok (.ireturn, 1) := dk_172 (dk_at dksX6_named_2 13 rfl rfl)
theorem dX6_named_54 : decode cX6_named 54 = .ok (.aload_n 0, 1) := dk_42 (dk_at dksX6_named_2 14 rfl rfl)
theorem dX6_named_55 : decode cX6_named 55 = .ok (.getfield 29, 3) := dk_180 0 29 (dk_at dksX6_named_2 15 rfl rfl)
theorem dX6_named_58 : decode cX6_named 58 = .ok (.iconst 0, 1) := dk_3 (dk_at dksX6_named_2 18 rfl rfl)
theorem dX6_named_59 : decode cX6_named 59 = .ok (.aload_n 0, 1) := dk_42 (dk_at dksX6_named_2 19 rfl rfl)
theorem dX6_named_60 : decode cX6_named 60 = .ok (.getfield 220, 3) := dk_180 0 220 (dk_at dksX6_named_2 20 rfl rfl)
theorem dX6_named_63 : decode cX6_named 63 = .ok (.iload_n 2, 1) := dk_28 (dk_at dksX6_named_2 23 rfl rfl)
theorem dX6_named_64 : decode cX6_named 64 = .ok (.invokestatic 255, 3) := dk_184 0 255 (dk_at dksX6_named_3 0 rfl rfl)
theorem dX6_named_67 : decode cX6_named 67 = .ok (.ireturn, 1) := dk_172 (dk_at dksX6_named_3 3 rfl rfl)
theorem dX6_named_68 : decode cX6_named 68 = .ok (.aload_n 0, 1) := dk_42 (dk_at dksX6_named_3 4 rfl rfl)
theorem dX6_named_69 : decode cX6_named 69 = .ok (.getfield 38, 3) := dk_180 0 38 (dk_at dksX6_named_3 5 rfl rfl)
theorem dX6_named_72 : decode cX6_named 72 = .ok (.iconst 0, 1) := dk_3 (dk_at dksX6_named_3 8 rfl rfl)
theorem dX6_named_73 : decode cX6_named 73 = .ok (.aload_n 0, 1) := dk_42 (dk_at dksX6_named_3 9 rfl rfl)
theorem dX6_named_74 : decode cX6_named 74 = .ok (.getfield 223, 3) := dk_180 0 223 (dk_at dksX6_named_3 10 rfl rfl)
theorem dX6_named_77 : decode cX6_named 77 = .ok (.iload_n 2, 1) := dk_28 (dk_at dksX6_named_3 13 rfl rfl)
theorem dX6_named_78 : decode cX6_named 78 = .ok (.invokestatic 255, 3) := dk_184 0 255 (dk_at dksX6_named_3 14 rfl rfl)
theorem dX6_named_81 : decode cX6_named 81 = .ok (.ireturn, 1) := dk_172 (dk_at dksX6_named_3 17 rfl rfl)
theorem dX6_named_82 : decode cX6_named 82 = .ok (.aload_n 0, 1) := dk_42 (dk_at dksX6_named_3 18 rfl rfl)
theorem dX6_named_83 : decode cX6_named 83 = .ok (.getfield 48, 3) := dk_180 0 48 (dk_at dksX6_named_3 19 rfl rfl)
theorem dX6_named_86 : decode cX6_named 86 = .ok (.iconst 0, 1) := dk_3 (dk_at dksX6_named_3 22 rfl rfl)
theorem dX6_named_87 : decode cX6_named 87 = .ok (.aload_n 0, 1) := dk_42 (dk_at dksX6_named_3 23 rfl rfl)
theorem dX6_named_88 : decode cX6_named 88 = .ok (.getfield 226, 3) := dk_180 0 226 (dk_at dksX6_named_4 0 rfl rfl)
theorem dX6_named_91 : decode cX6_named 91 = .ok (.iload_n 2, 1) := dk_28 (dk_at dksX6_named_4 3 rfl rfl)
theorem dX6_named_92 : decode cX6_named 92 = .ok (.invokestatic 255, 3) := dk_184 0 255 (dk_at dksX6_named_4 4 rfl rfl)
theorem dX6_named_95 : decode cX6_named 95 = .ok (.ireturn, 1) := dk_172 (dk_at dksX6_named_4 7 rfl rfl)
theorem dX6_named_96 : decode cX6_named 96 = .ok (.aload_n 0, 1) := dk_42 (dk_at dksX6_named_4 8 rfl rfl)
theorem dX6_named_97 : decode cX6_named 97 = .ok (.getfield 57, 3) := dk_180 0 57 (dk_at dksX6_named_4 9 rfl rfl)
theorem dX6_named_100 : decode cX6_named 100 = .ok (.iconst 0, 1) := dk_3 (dk_at dksX6_named_4 12 rfl rfl)
theorem dX6_named_101 : decode cX6_named 101 = .ok (.aload_n 0, 1) := dk_42 (dk_at dksX6_named_4 13 rfl rfl)
theorem dX6_named_102 : decode cX6_named 102 = .ok (.getfield 243, 3) := dk_180 0 243 (dk_at dksX6_named_4 14 rfl rfl)
theorem dX6_named_105 : decode cX6_named 105 = .ok (.iload_n 2, 1) := dk_28 (dk_at dksX6_named_4 17 rfl rfl)
theorem dX6_named_106 : decode cX6_named 106 = .ok (.invokestatic 255, 3) := dk_184 0 255 (dk_at dksX6_named_4 18 rfl rfl)
theorem dX6_named_109 : decode cX6_named 109 = .ok (.ireturn, 1) := dk_172 (dk_at dksX6_named_4 21 rfl rfl)
theorem dX6_named_110 : decode cX6_named 110 = .ok (.iconst (-1), 1) := dk_2 (dk_at dksX6_named_4 22 rfl rfl)
theorem dX6_named_111 : decode cX6_named 111 = .ok (.ireturn, 1) := dk_172 (dk_at dksX6_named_4 23 rfl rfl)
abbrev cX6_look : ByteArray := prog_20_method_61_code
def yX6_look : MethodName := ⟨RX6, "look", "(II)I"⟩
def dkwX6_look_2 : List UInt8 := [172]
abbrev dktX6_look_2 : List UInt8 := dkwX6_look_2 ++ []
def dkwX6_look_1 : List UInt8 := [184, 0, 166, 153, 0, 16, 42, 180, 0, 26, 6, 27, 104, 28, 96, 46, 167, 0, 8, 42, 5, 182, 1, 151]
abbrev dktX6_look_1 : List UInt8 := dkwX6_look_1 ++ dktX6_look_2
def dkwX6_look_0 : List UInt8 := [42, 3, 181, 0, 119, 42, 27, 182, 1, 148, 154, 0, 9, 42, 4, 182, 1, 151, 172, 28, 3, 5]
abbrev dktX6_look_0 : List UInt8 := dkwX6_look_0 ++ dktX6_look_1
theorem dksX6_look_0 : cX6_look.data.toList.drop 0 = dktX6_look_0 := by decide +kernel
theorem dksX6_look_1 : cX6_look.data.toList.drop 22 = dktX6_look_1 := dk_seg dksX6_look_0 22 rfl rfl
theorem dksX6_look_2 : cX6_look.data.toList.drop 46 = dktX6_look_2 := dk_seg dksX6_look_1 24 rfl rfl
theorem dX6_look_0 : decode cX6_look 0 = .ok (.aload_n 0, 1) := dk_42 (dk_at dksX6_look_0 0 rfl rfl)
theorem dX6_look_1 : decode cX6_look 1 = .ok (.iconst 0, 1) := dk_3 (dk_at dksX6_look_0 1 rfl rfl)
theorem dX6_look_2 : decode cX6_look 2 = .ok (.putfield 119, 3) := dk_181 0 119 (dk_at dksX6_look_0 2 rfl rfl)
theorem dX6_look_5 : decode cX6_look 5 = .ok (.aload_n 0, 1) := dk_42 (dk_at dksX6_look_0 5 rfl rfl)
theorem dX6_look_6 : decode cX6_look 6 = .ok (.iload_n 1, 1) := dk_27 (dk_at dksX6_look_0 6 rfl rfl)
theorem dX6_look_7 : decode cX6_look 7 = .ok (.invokevirtual 404, 3) := dk_182 1 148 (dk_at dksX6_look_0 7 rfl rfl)
theorem dX6_look_10 : decode cX6_look 10 = .ok (.ifCond .ne 9, 3) := dk_154 0 9 (dk_at dksX6_look_0 10 rfl rfl)
theorem dX6_look_13 : decode cX6_look 13 = .ok (.aload_n 0, 1) := dk_42 (dk_at dksX6_look_0 13 rfl rfl)
theorem dX6_look_14 : decode cX6_look 14 = .ok (.iconst 1, 1) := dk_4 (dk_at dksX6_look_0 14 rfl rfl)
theorem dX6_look_15 : decode cX6_look 15 = .ok (.invokevirtual 407, 3) := dk_182 1 151 (dk_at dksX6_look_0 15 rfl rfl)
theorem dX6_look_18 : decode cX6_look 18 = .ok (.ireturn, 1) := dk_172 (dk_at dksX6_look_0 18 rfl rfl)
theorem dX6_look_19 : decode cX6_look 19 = .ok (.iload_n 2, 1) := dk_28 (dk_at dksX6_look_0 19 rfl rfl)
theorem dX6_look_20 : decode cX6_look 20 = .ok (.iconst 0, 1) := dk_3 (dk_at dksX6_look_0 20 rfl rfl)
theorem dX6_look_21 : decode cX6_look 21 = .ok (.iconst 2, 1) := dk_5 (dk_at dksX6_look_0 21 rfl rfl)
theorem dX6_look_22 : decode cX6_look 22 = .ok (.invokestatic 166, 3) := dk_184 0 166 (dk_at dksX6_look_1 0 rfl rfl)
theorem dX6_look_25 : decode cX6_look 25 = .ok (.ifCond .eq 16, 3) := dk_153 0 16 (dk_at dksX6_look_1 3 rfl rfl)
theorem dX6_look_28 : decode cX6_look 28 = .ok (.aload_n 0, 1) := dk_42 (dk_at dksX6_look_1 6 rfl rfl)
theorem dX6_look_29 : decode cX6_look 29 = .ok (.getfield 26, 3) := dk_180 0 26 (dk_at dksX6_look_1 7 rfl rfl)
theorem dX6_look_32 : decode cX6_look 32 = .ok (.iconst 3, 1) := dk_6 (dk_at dksX6_look_1 10 rfl rfl)
theorem dX6_look_33 : decode cX6_look 33 = .ok (.iload_n 1, 1) := dk_27 (dk_at dksX6_look_1 11 rfl rfl)
theorem dX6_look_34 : decode cX6_look 34 = .ok (.imul, 1) := dk_104 (dk_at dksX6_look_1 12 rfl rfl)
theorem dX6_look_35 : decode cX6_look 35 = .ok (.iload_n 2, 1) := dk_28 (dk_at dksX6_look_1 13 rfl rfl)
theorem dX6_look_36 : decode cX6_look 36 = .ok (.iadd, 1) := dk_96 (dk_at dksX6_look_1 14 rfl rfl)
theorem dX6_look_37 : decode cX6_look 37 = .ok (.iaload, 1) := dk_46 (dk_at dksX6_look_1 15 rfl rfl)
theorem dX6_look_38 : decode cX6_look 38 = .ok (.goto 8, 3) := dk_167 0 8 (dk_at dksX6_look_1 16 rfl rfl)
theorem dX6_look_41 : decode cX6_look 41 = .ok (.aload_n 0, 1) := dk_42 (dk_at dksX6_look_1 19 rfl rfl)
theorem dX6_look_42 : decode cX6_look 42 = .ok (.iconst 2, 1) := dk_5 (dk_at dksX6_look_1 20 rfl rfl)
theorem dX6_look_43 : decode cX6_look 43 = .ok (.invokevirtual 407, 3) := dk_182 1 151 (dk_at dksX6_look_1 21 rfl rfl)
theorem dX6_look_46 : decode cX6_look 46 = .ok (.ireturn, 1) := dk_172 (dk_at dksX6_look_2 0 rfl rfl)
abbrev cX6_isLand : ByteArray := prog_20_method_58_code
def yX6_isLand : MethodName := ⟨RX6, "isLand", "(I)Z"⟩
def dkwX6_isLand_0 : List UInt8 := [27, 155, 0, 15, 27, 42, 180, 0, 217, 162, 0, 7, 4, 167, 0, 4, 3, 172]
abbrev dktX6_isLand_0 : List UInt8 := dkwX6_isLand_0 ++ []
theorem dksX6_isLand_0 : cX6_isLand.data.toList.drop 0 = dktX6_isLand_0 := by decide +kernel
theorem dX6_isLand_0 : decode cX6_isLand 0 = .ok (.iload_n 1, 1) := dk_27 (dk_at dksX6_isLand_0 0 rfl rfl)
theorem dX6_isLand_1 : decode cX6_isLand 1 = .ok (.ifCond .lt 15, 3) := dk_155 0 15 (dk_at dksX6_isLand_0 1 rfl rfl)
theorem dX6_isLand_4 : decode cX6_isLand 4 = .ok (.iload_n 1, 1) := dk_27 (dk_at dksX6_isLand_0 4 rfl rfl)
theorem dX6_isLand_5 : decode cX6_isLand 5 = .ok (.aload_n 0, 1) := dk_42 (dk_at dksX6_isLand_0 5 rfl rfl)
theorem dX6_isLand_6 : decode cX6_isLand 6 = .ok (.getfield 217, 3) := dk_180 0 217 (dk_at dksX6_isLand_0 6 rfl rfl)
theorem dX6_isLand_9 : decode cX6_isLand 9 = .ok (.if_icmp .ge 7, 3) := dk_162 0 7 (dk_at dksX6_isLand_0 9 rfl rfl)
theorem dX6_isLand_12 : decode cX6_isLand 12 = .ok (.iconst 1, 1) := dk_4 (dk_at dksX6_isLand_0 12 rfl rfl)
theorem dX6_isLand_13 : decode cX6_isLand 13 = .ok (.goto 4, 3) := dk_167 0 4 (dk_at dksX6_isLand_0 13 rfl rfl)
theorem dX6_isLand_16 : decode cX6_isLand 16 = .ok (.iconst 0, 1) := dk_3 (dk_at dksX6_isLand_0 16 rfl rfl)
theorem dX6_isLand_17 : decode cX6_isLand 17 = .ok (.ireturn, 1) := dk_172 (dk_at dksX6_isLand_0 17 rfl rfl)
abbrev cX6_fails : ByteArray := prog_20_method_60_code
def yX6_fails : MethodName := ⟨RX6, "fails", "(I)I"⟩
def dkwX6_fails_0 : List UInt8 := [42, 27, 181, 0, 119, 3, 172]
abbrev dktX6_fails_0 : List UInt8 := dkwX6_fails_0 ++ []
theorem dksX6_fails_0 : cX6_fails.data.toList.drop 0 = dktX6_fails_0 := by decide +kernel
theorem dX6_fails_0 : decode cX6_fails 0 = .ok (.aload_n 0, 1) := dk_42 (dk_at dksX6_fails_0 0 rfl rfl)
theorem dX6_fails_1 : decode cX6_fails 1 = .ok (.iload_n 1, 1) := dk_27 (dk_at dksX6_fails_0 1 rfl rfl)
theorem dX6_fails_2 : decode cX6_fails 2 = .ok (.putfield 119, 3) := dk_181 0 119 (dk_at dksX6_fails_0 2 rfl rfl)
theorem dX6_fails_5 : decode cX6_fails 5 = .ok (.iconst 0, 1) := dk_3 (dk_at dksX6_fails_0 5 rfl rfl)
theorem dX6_fails_6 : decode cX6_fails 6 = .ok (.ireturn, 1) := dk_172 (dk_at dksX6_fails_0 6 rfl rfl)
abbrev cX6_length : ByteArray := prog_20_method_62_code
def yX6_length : MethodName := ⟨RX6, "length", "(II)J"⟩
def dkwX6_length_1 : List UInt8 := [27, 28, 133, 182, 1, 119, 167, 0, 6, 20, 1, 17, 173]
abbrev dktX6_length_1 : List UInt8 := dkwX6_length_1 ++ []
def dkwX6_length_0 : List UInt8 := [42, 3, 181, 0, 119, 42, 27, 182, 1, 148, 153, 0, 23, 42, 27, 28, 133, 182, 1, 154, 153, 0, 13, 42]
abbrev dktX6_length_0 : List UInt8 := dkwX6_length_0 ++ dktX6_length_1
theorem dksX6_length_0 : cX6_length.data.toList.drop 0 = dktX6_length_0 := by decide +kernel
theorem dksX6_length_1 : cX6_length.data.toList.drop 24 = dktX6_length_1 := dk_seg dksX6_length_0 24 rfl rfl
theorem dX6_length_0 : decode cX6_length 0 = .ok (.aload_n 0, 1) := dk_42 (dk_at dksX6_length_0 0 rfl rfl)
theorem dX6_length_1 : decode cX6_length 1 = .ok (.iconst 0, 1) := dk_3 (dk_at dksX6_length_0 1 rfl rfl)
theorem dX6_length_2 : decode cX6_length 2 = .ok (.putfield 119, 3) := dk_181 0 119 (dk_at dksX6_length_0 2 rfl rfl)
theorem dX6_length_5 : decode cX6_length 5 = .ok (.aload_n 0, 1) := dk_42 (dk_at dksX6_length_0 5 rfl rfl)
theorem dX6_length_6 : decode cX6_length 6 = .ok (.iload_n 1, 1) := dk_27 (dk_at dksX6_length_0 6 rfl rfl)
theorem dX6_length_7 : decode cX6_length 7 = .ok (.invokevirtual 404, 3) := dk_182 1 148 (dk_at dksX6_length_0 7 rfl rfl)
theorem dX6_length_10 : decode cX6_length 10 = .ok (.ifCond .eq 23, 3) := dk_153 0 23 (dk_at dksX6_length_0 10 rfl rfl)
theorem dX6_length_13 : decode cX6_length 13 = .ok (.aload_n 0, 1) := dk_42 (dk_at dksX6_length_0 13 rfl rfl)
theorem dX6_length_14 : decode cX6_length 14 = .ok (.iload_n 1, 1) := dk_27 (dk_at dksX6_length_0 14 rfl rfl)
theorem dX6_length_15 : decode cX6_length 15 = .ok (.iload_n 2, 1) := dk_28 (dk_at dksX6_length_0 15 rfl rfl)
theorem dX6_length_16 : decode cX6_length 16 = .ok (.i2l, 1) := dk_133 (dk_at dksX6_length_0 16 rfl rfl)
theorem dX6_length_17 : decode cX6_length 17 = .ok (.invokevirtual 410, 3) := dk_182 1 154 (dk_at dksX6_length_0 17 rfl rfl)
theorem dX6_length_20 : decode cX6_length 20 = .ok (.ifCond .eq 13, 3) := dk_153 0 13 (dk_at dksX6_length_0 20 rfl rfl)
theorem dX6_length_23 : decode cX6_length 23 = .ok (.aload_n 0, 1) := dk_42 (dk_at dksX6_length_0 23 rfl rfl)
theorem dX6_length_24 : decode cX6_length 24 = .ok (.iload_n 1, 1) := dk_27 (dk_at dksX6_length_1 0 rfl rfl)
theorem dX6_length_25 : decode cX6_length 25 = .ok (.iload_n 2, 1) := dk_28 (dk_at dksX6_length_1 1 rfl rfl)
theorem dX6_length_26 : decode cX6_length 26 = .ok (.i2l, 1) := dk_133 (dk_at dksX6_length_1 2 rfl rfl)
theorem dX6_length_27 : decode cX6_length 27 = .ok (.invokevirtual 375, 3) := dk_182 1 119 (dk_at dksX6_length_1 3 rfl rfl)
theorem dX6_length_30 : decode cX6_length 30 = .ok (.goto 6, 3) := dk_167 0 6 (dk_at dksX6_length_1 6 rfl rfl)
theorem dX6_length_33 : decode cX6_length 33 = .ok (.ldc2_w 273, 3) := dk_20 1 17 (dk_at dksX6_length_1 9 rfl rfl)
theorem dX6_length_36 : decode cX6_length 36 = .ok (.lreturn, 1) := dk_173 (dk_at dksX6_length_1 12 rfl rfl)
abbrev cX6_isAsked : ByteArray := prog_20_method_59_code
def yX6_isAsked : MethodName := ⟨RX6, "isAsked", "(IJ)Z"⟩
def dkwX6_isAsked_0 : List UInt8 := [32, 20, 1, 146, 148, 157, 0, 16, 42, 27, 32, 182, 1, 129, 153, 0, 7, 4, 167, 0, 4, 3, 172]
abbrev dktX6_isAsked_0 : List UInt8 := dkwX6_isAsked_0 ++ []
theorem dksX6_isAsked_0 : cX6_isAsked.data.toList.drop 0 = dktX6_isAsked_0 := by decide +kernel
theorem dX6_isAsked_0 : decode cX6_isAsked 0 = .ok (.lload_n 2, 1) := dk_32 (dk_at dksX6_isAsked_0 0 rfl rfl)
theorem dX6_isAsked_1 : decode cX6_isAsked 1 = .ok (.ldc2_w 402, 3) := dk_20 1 146 (dk_at dksX6_isAsked_0 1 rfl rfl)
theorem dX6_isAsked_4 : decode cX6_isAsked 4 = .ok (.lcmp, 1) := dk_148 (dk_at dksX6_isAsked_0 4 rfl rfl)
theorem dX6_isAsked_5 : decode cX6_isAsked 5 = .ok (.ifCond .gt 16, 3) := dk_157 0 16 (dk_at dksX6_isAsked_0 5 rfl rfl)
theorem dX6_isAsked_8 : decode cX6_isAsked 8 = .ok (.aload_n 0, 1) := dk_42 (dk_at dksX6_isAsked_0 8 rfl rfl)
theorem dX6_isAsked_9 : decode cX6_isAsked 9 = .ok (.iload_n 1, 1) := dk_27 (dk_at dksX6_isAsked_0 9 rfl rfl)
theorem dX6_isAsked_10 : decode cX6_isAsked 10 = .ok (.lload_n 2, 1) := dk_32 (dk_at dksX6_isAsked_0 10 rfl rfl)
theorem dX6_isAsked_11 : decode cX6_isAsked 11 = .ok (.invokevirtual 385, 3) := dk_182 1 129 (dk_at dksX6_isAsked_0 11 rfl rfl)
theorem dX6_isAsked_14 : decode cX6_isAsked 14 = .ok (.ifCond .eq 7, 3) := dk_153 0 7 (dk_at dksX6_isAsked_0 14 rfl rfl)
theorem dX6_isAsked_17 : decode cX6_isAsked 17 = .ok (.iconst 1, 1) := dk_4 (dk_at dksX6_isAsked_0 17 rfl rfl)
theorem dX6_isAsked_18 : decode cX6_isAsked 18 = .ok (.goto 4, 3) := dk_167 0 4 (dk_at dksX6_isAsked_0 18 rfl rfl)
theorem dX6_isAsked_21 : decode cX6_isAsked 21 = .ok (.iconst 0, 1) := dk_3 (dk_at dksX6_isAsked_0 21 rfl rfl)
theorem dX6_isAsked_22 : decode cX6_isAsked 22 = .ok (.ireturn, 1) := dk_172 (dk_at dksX6_isAsked_0 22 rfl rfl)
abbrev cX6_date : ByteArray := prog_20_method_63_code
def yX6_date : MethodName := ⟨RX6, "date", "(IJI)J"⟩
def dkwX6_date_2 : List UInt8 := [42, 180, 1, 140, 167, 0, 7, 42, 180, 1, 143, 173]
abbrev dktX6_date_2 : List UInt8 := dkwX6_date_2 ++ []
def dkwX6_date_1 : List UInt8 := [184, 0, 166, 153, 0, 12, 42, 27, 32, 182, 1, 160, 154, 0, 7, 20, 1, 17, 173, 21, 4, 154, 0, 10]
abbrev dktX6_date_1 : List UInt8 := dkwX6_date_1 ++ dktX6_date_2
def dkwX6_date_0 : List UInt8 := [42, 3, 181, 0, 119, 42, 27, 182, 1, 148, 153, 0, 29, 32, 184, 1, 157, 153, 0, 22, 21, 4, 3, 4]
abbrev dktX6_date_0 : List UInt8 := dkwX6_date_0 ++ dktX6_date_1
theorem dksX6_date_0 : cX6_date.data.toList.drop 0 = dktX6_date_0 := by decide +kernel
theorem dksX6_date_1 : cX6_date.data.toList.drop 24 = dktX6_date_1 := dk_seg dksX6_date_0 24 rfl rfl
theorem dksX6_date_2 : cX6_date.data.toList.drop 48 = dktX6_date_2 := dk_seg dksX6_date_1 24 rfl rfl
theorem dX6_date_0 : decode cX6_date 0 = .ok (.aload_n 0, 1) := dk_42 (dk_at dksX6_date_0 0 rfl rfl)
theorem dX6_date_1 : decode cX6_date 1 = .ok (.iconst 0, 1) := dk_3 (dk_at dksX6_date_0 1 rfl rfl)
theorem dX6_date_2 : decode cX6_date 2 = .ok (.putfield 119, 3) := dk_181 0 119 (dk_at dksX6_date_0 2 rfl rfl)
theorem dX6_date_5 : decode cX6_date 5 = .ok (.aload_n 0, 1) := dk_42 (dk_at dksX6_date_0 5 rfl rfl)
theorem dX6_date_6 : decode cX6_date 6 = .ok (.iload_n 1, 1) := dk_27 (dk_at dksX6_date_0 6 rfl rfl)
theorem dX6_date_7 : decode cX6_date 7 = .ok (.invokevirtual 404, 3) := dk_182 1 148 (dk_at dksX6_date_0 7 rfl rfl)
theorem dX6_date_10 : decode cX6_date 10 = .ok (.ifCond .eq 29, 3) := dk_153 0 29 (dk_at dksX6_date_0 10 rfl rfl)
theorem dX6_date_13 : decode cX6_date 13 = .ok (.lload_n 2, 1) := dk_32 (dk_at dksX6_date_0 13 rfl rfl)
theorem dX6_date_14 : decode cX6_date 14 = .ok (.invokestatic 413, 3) := dk_184 1 157 (dk_at dksX6_date_0 14 rfl rfl)
theorem dX6_date_17 : decode cX6_date 17 = .ok (.ifCond .eq 22, 3) := dk_153 0 22 (dk_at dksX6_date_0 17 rfl rfl)
theorem dX6_date_20 : decode cX6_date 20 = .ok (.iload 4, 2) := dk_21 4 (dk_at dksX6_date_0 20 rfl rfl)
theorem dX6_date_22 : decode cX6_date 22 = .ok (.iconst 0, 1) := dk_3 (dk_at dksX6_date_0 22 rfl rfl)
theorem dX6_date_23 : decode cX6_date 23 = .ok (.iconst 1, 1) := dk_4 (dk_at dksX6_date_0 23 rfl rfl)
theorem dX6_date_24 : decode cX6_date 24 = .ok (.invokestatic 166, 3) := dk_184 0 166 (dk_at dksX6_date_1 0 rfl rfl)
theorem dX6_date_27 : decode cX6_date 27 = .ok (.ifCond .eq 12, 3) := dk_153 0 12 (dk_at dksX6_date_1 3 rfl rfl)
theorem dX6_date_30 : decode cX6_date 30 = .ok (.aload_n 0, 1) := dk_42 (dk_at dksX6_date_1 6 rfl rfl)
theorem dX6_date_31 : decode cX6_date 31 = .ok (.iload_n 1, 1) := dk_27 (dk_at dksX6_date_1 7 rfl rfl)
theorem dX6_date_32 : decode cX6_date 32 = .ok (.lload_n 2, 1) := dk_32 (dk_at dksX6_date_1 8 rfl rfl)
theorem dX6_date_33 : decode cX6_date 33 = .ok (.invokevirtual 416, 3) := dk_182 1 160 (dk_at dksX6_date_1 9 rfl rfl)
theorem dX6_date_36 : decode cX6_date 36 = .ok (.ifCond .ne 7, 3) := dk_154 0 7 (dk_at dksX6_date_1 12 rfl rfl)
theorem dX6_date_39 : decode cX6_date 39 = .ok (.ldc2_w 273, 3) := dk_20 1 17 (dk_at dksX6_date_1 15 rfl rfl)
theorem dX6_date_42 : decode cX6_date 42 = .ok (.lreturn, 1) := dk_173 (dk_at dksX6_date_1 18 rfl rfl)
theorem dX6_date_43 : decode cX6_date 43 = .ok (.iload 4, 2) := dk_21 4 (dk_at dksX6_date_1 19 rfl rfl)
theorem dX6_date_45 : decode cX6_date 45 = .ok (.ifCond .ne 10, 3) := dk_154 0 10 (dk_at dksX6_date_1 21 rfl rfl)
theorem dX6_date_48 : decode cX6_date 48 = .ok (.aload_n 0, 1) := dk_42 (dk_at dksX6_date_2 0 rfl rfl)
theorem dX6_date_49 : decode cX6_date 49 = .ok (.getfield 396, 3) := dk_180 1 140 (dk_at dksX6_date_2 1 rfl rfl)
theorem dX6_date_52 : decode cX6_date 52 = .ok (.goto 7, 3) := dk_167 0 7 (dk_at dksX6_date_2 4 rfl rfl)
theorem dX6_date_55 : decode cX6_date 55 = .ok (.aload_n 0, 1) := dk_42 (dk_at dksX6_date_2 7 rfl rfl)
theorem dX6_date_56 : decode cX6_date 56 = .ok (.getfield 399, 3) := dk_180 1 143 (dk_at dksX6_date_2 8 rfl rfl)
theorem dX6_date_59 : decode cX6_date 59 = .ok (.lreturn, 1) := dk_173 (dk_at dksX6_date_2 11 rfl rfl)
abbrev cX6_isCount : ByteArray := prog_20_method_6_code
def yX6_isCount : MethodName := ⟨RX6, "isCount", "(J)Z"⟩
def dkwX6_isCount_0 : List UInt8 := [30, 9, 148, 155, 0, 15, 30, 20, 0, 125, 148, 157, 0, 7, 4, 167, 0, 4, 3, 172]
abbrev dktX6_isCount_0 : List UInt8 := dkwX6_isCount_0 ++ []
theorem dksX6_isCount_0 : cX6_isCount.data.toList.drop 0 = dktX6_isCount_0 := by decide +kernel
theorem dX6_isCount_0 : decode cX6_isCount 0 = .ok (.lload_n 0, 1) := dk_30 (dk_at dksX6_isCount_0 0 rfl rfl)
theorem dX6_isCount_1 : decode cX6_isCount 1 = .ok (.lconst 0, 1) := dk_9 (dk_at dksX6_isCount_0 1 rfl rfl)
theorem dX6_isCount_2 : decode cX6_isCount 2 = .ok (.lcmp, 1) := dk_148 (dk_at dksX6_isCount_0 2 rfl rfl)
theorem dX6_isCount_3 : decode cX6_isCount 3 = .ok (.ifCond .lt 15, 3) := dk_155 0 15 (dk_at dksX6_isCount_0 3 rfl rfl)
theorem dX6_isCount_6 : decode cX6_isCount 6 = .ok (.lload_n 0, 1) := dk_30 (dk_at dksX6_isCount_0 6 rfl rfl)
theorem dX6_isCount_7 : decode cX6_isCount 7 = .ok (.ldc2_w 125, 3) := dk_20 0 125 (dk_at dksX6_isCount_0 7 rfl rfl)
theorem dX6_isCount_10 : decode cX6_isCount 10 = .ok (.lcmp, 1) := dk_148 (dk_at dksX6_isCount_0 10 rfl rfl)
theorem dX6_isCount_11 : decode cX6_isCount 11 = .ok (.ifCond .gt 7, 3) := dk_157 0 7 (dk_at dksX6_isCount_0 11 rfl rfl)
theorem dX6_isCount_14 : decode cX6_isCount 14 = .ok (.iconst 1, 1) := dk_4 (dk_at dksX6_isCount_0 14 rfl rfl)
theorem dX6_isCount_15 : decode cX6_isCount 15 = .ok (.goto 4, 3) := dk_167 0 4 (dk_at dksX6_isCount_0 15 rfl rfl)
theorem dX6_isCount_18 : decode cX6_isCount 18 = .ok (.iconst 0, 1) := dk_3 (dk_at dksX6_isCount_0 18 rfl rfl)
theorem dX6_isCount_19 : decode cX6_isCount 19 = .ok (.ireturn, 1) := dk_172 (dk_at dksX6_isCount_0 19 rfl rfl)
abbrev cX6_date1 : ByteArray := prog_20_method_57_code
def yX6_date1 : MethodName := ⟨RX6, "date1", "(IJ)Z"⟩
def dkwX6_date1_7 : List UInt8 := [22, 6, 182, 1, 119, 148, 157, 0, 7, 4, 167, 0, 4, 3, 172]
abbrev dktX6_date1_7 : List UInt8 := dkwX6_date1_7 ++ []
def dkwX6_date1_6 : List UInt8 := [181, 1, 140, 42, 32, 42, 27, 22, 6, 182, 1, 133, 101, 10, 97, 181, 1, 143, 42, 180, 1, 143, 42, 27]
abbrev dktX6_date1_6 : List UInt8 := dkwX6_date1_6 ++ dktX6_date1_7
def dkwX6_date1_5 : List UInt8 := [148, 157, 0, 10, 22, 10, 55, 6, 167, 0, 9, 22, 10, 10, 101, 55, 8, 167, 255, 210, 42, 22, 6]
abbrev dktX6_date1_5 : List UInt8 := dkwX6_date1_5 ++ dktX6_date1_6
def dkwX6_date1_4 : List UInt8 := [156, 0, 44, 22, 6, 22, 8, 97, 10, 97, 20, 1, 127, 109, 55, 10, 42, 27, 22, 10, 182, 1, 133, 32]
abbrev dktX6_date1_4 : List UInt8 := dkwX6_date1_4 ++ dktX6_date1_5
def dkwX6_date1_3 : List UInt8 := [5, 96, 46, 133, 101, 42, 180, 0, 26, 6, 27, 104, 46, 133, 109, 10, 97, 55, 8, 22, 6, 22, 8, 148]
abbrev dktX6_date1_3 : List UInt8 := dkwX6_date1_3 ++ dktX6_date1_4
def dkwX6_date1_2 : List UInt8 := [167, 0, 41, 22, 4, 9, 148, 158, 0, 9, 20, 1, 123, 167, 0, 28, 32, 42, 180, 0, 26, 6, 27, 104]
abbrev dktX6_date1_2 : List UInt8 := dkwX6_date1_2 ++ dktX6_date1_3
def dkwX6_date1_1 : List UInt8 := [104, 4, 96, 46, 133, 55, 4, 10, 55, 6, 22, 4, 9, 148, 156, 0, 11, 42, 27, 182, 1, 136]
abbrev dktX6_date1_1 : List UInt8 := dkwX6_date1_1 ++ dktX6_date1_2
def dkwX6_date1_0 : List UInt8 := [32, 42, 180, 0, 26, 6, 27, 104, 5, 96, 46, 133, 148, 156, 0, 5, 3, 172, 42, 180, 0, 26, 6, 27]
abbrev dktX6_date1_0 : List UInt8 := dkwX6_date1_0 ++ dktX6_date1_1
theorem dksX6_date1_0 : cX6_date1.data.toList.drop 0 = dktX6_date1_0 := by decide +kernel
theorem dksX6_date1_1 : cX6_date1.data.toList.drop 24 = dktX6_date1_1 := dk_seg dksX6_date1_0 24 rfl rfl
theorem dksX6_date1_2 : cX6_date1.data.toList.drop 46 = dktX6_date1_2 := dk_seg dksX6_date1_1 22 rfl rfl
theorem dksX6_date1_3 : cX6_date1.data.toList.drop 70 = dktX6_date1_3 := dk_seg dksX6_date1_2 24 rfl rfl
theorem dksX6_date1_4 : cX6_date1.data.toList.drop 94 = dktX6_date1_4 := dk_seg dksX6_date1_3 24 rfl rfl
theorem dksX6_date1_5 : cX6_date1.data.toList.drop 118 = dktX6_date1_5 := dk_seg dksX6_date1_4 24 rfl rfl
theorem dksX6_date1_6 : cX6_date1.data.toList.drop 141 = dktX6_date1_6 := dk_seg dksX6_date1_5 23 rfl rfl
theorem dksX6_date1_7 : cX6_date1.data.toList.drop 165 = dktX6_date1_7 := dk_seg dksX6_date1_6 24 rfl rfl
theorem dX6_date1_0 : decode cX6_date1 0 = .ok (.lload_n 2, 1) := dk_32 (dk_at dksX6_date1_0 0 rfl rfl)
theorem dX6_date1_1 : decode cX6_date1 1 = .ok (.aload_n 0, 1) := dk_42 (dk_at dksX6_date1_0 1 rfl rfl)
theorem dX6_date1_2 : decode cX6_date1 2 = .ok (.getfield 26, 3) := dk_180 0 26 (dk_at dksX6_date1_0 2 rfl rfl)
theorem dX6_date1_5 : decode cX6_date1 5 = .ok (.iconst 3, 1) := dk_6 (dk_at dksX6_date1_0 5 rfl rfl)
theorem dX6_date1_6 : decode cX6_date1 6 = .ok (.iload_n 1, 1) := dk_27 (dk_at dksX6_date1_0 6 rfl rfl)
theorem dX6_date1_7 : decode cX6_date1 7 = .ok (.imul, 1) := dk_104 (dk_at dksX6_date1_0 7 rfl rfl)
theorem dX6_date1_8 : decode cX6_date1 8 = .ok (.iconst 2, 1) := dk_5 (dk_at dksX6_date1_0 8 rfl rfl)
theorem dX6_date1_9 : decode cX6_date1 9 = .ok (.iadd, 1) := dk_96 (dk_at dksX6_date1_0 9 rfl rfl)
theorem dX6_date1_10 : decode cX6_date1 10 = .ok (.iaload, 1) := dk_46 (dk_at dksX6_date1_0 10 rfl rfl)
theorem dX6_date1_11 : decode cX6_date1 11 = .ok (.i2l, 1) := dk_133 (dk_at dksX6_date1_0 11 rfl rfl)
theorem dX6_date1_12 : decode cX6_date1 12 = .ok (.lcmp, 1) := dk_148 (dk_at dksX6_date1_0 12 rfl rfl)
theorem dX6_date1_13 : decode cX6_date1 13 = .ok (.ifCond .ge 5, 3) := dk_156 0 5 (dk_at dksX6_date1_0 13 rfl rfl)
theorem dX6_date1_16 : decode cX6_date1 16 = .ok (.iconst 0, 1) := dk_3 (dk_at dksX6_date1_0 16 rfl rfl)
theorem dX6_date1_17 : decode cX6_date1 17 = .ok (.ireturn, 1) := dk_172 (dk_at dksX6_date1_0 17 rfl rfl)
theorem dX6_date1_18 : decode cX6_date1 18 = .ok (.aload_n 0, 1) := dk_42 (dk_at dksX6_date1_0 18 rfl rfl)
theorem dX6_date1_19 : decode cX6_date1 19 = .ok (.getfield 26, 3) := dk_180 0 26 (dk_at dksX6_date1_0 19 rfl rfl)
theorem dX6_date1_22 : decode cX6_date1 22 = .ok (.iconst 3, 1) := dk_6 (dk_at dksX6_date1_0 22 rfl rfl)
theorem dX6_date1_23 : decode cX6_date1 23 = .ok (.iload_n 1, 1) := dk_27 (dk_at dksX6_date1_0 23 rfl rfl)
theorem dX6_date1_24 : decode cX6_date1 24 = .ok (.imul, 1) := dk_104 (dk_at dksX6_date1_1 0 rfl rfl)
theorem dX6_date1_25 : decode cX6_date1 25 = .ok (.iconst 1, 1) := dk_4 (dk_at dksX6_date1_1 1 rfl rfl)
theorem dX6_date1_26 : decode cX6_date1 26 = .ok (.iadd, 1) := dk_96 (dk_at dksX6_date1_1 2 rfl rfl)
theorem dX6_date1_27 : decode cX6_date1 27 = .ok (.iaload, 1) := dk_46 (dk_at dksX6_date1_1 3 rfl rfl)
theorem dX6_date1_28 : decode cX6_date1 28 = .ok (.i2l, 1) := dk_133 (dk_at dksX6_date1_1 4 rfl rfl)
theorem dX6_date1_29 : decode cX6_date1 29 = .ok (.lstore 4, 2) := dk_55 4 (dk_at dksX6_date1_1 5 rfl rfl)
theorem dX6_date1_31 : decode cX6_date1 31 = .ok (.lconst 1, 1) := dk_10 (dk_at dksX6_date1_1 7 rfl rfl)
theorem dX6_date1_32 : decode cX6_date1 32 = .ok (.lstore 6, 2) := dk_55 6 (dk_at dksX6_date1_1 8 rfl rfl)
theorem dX6_date1_34 : decode cX6_date1 34 = .ok (.lload 4, 2) := dk_22 4 (dk_at dksX6_date1_1 10 rfl rfl)
theorem dX6_date1_36 : decode cX6_date1 36 = .ok (.lconst 0, 1) := dk_9 (dk_at dksX6_date1_1 12 rfl rfl)
theorem dX6_date1_37 : decode cX6_date1 37 = .ok (.lcmp, 1) := dk_148 (dk_at dksX6_date1_1 13 rfl rfl)
theorem dX6_date1_38 : decode cX6_date1 38 = .ok (.ifCond .ge 11, 3) := dk_156 0 11 (dk_at dksX6_date1_1 14 rfl rfl)
theorem dX6_date1_41 : decode cX6_date1 41 = .ok (.aload_n 0, 1) := dk_42 (dk_at dksX6_date1_1 17 rfl rfl)
theorem dX6_date1_42 : decode cX6_date1 42 = .ok (.iload_n 1, 1) := dk_27 (dk_at dksX6_date1_1 18 rfl rfl)
theorem dX6_date1_43 : decode cX6_date1 43 = .ok (.invokevirtual 392, 3) := dk_182 1 136 (dk_at dksX6_date1_1 19 rfl rfl)
theorem dX6_date1_46 : decode cX6_date1 46 = .ok (.goto 41, 3) := dk_167 0 41 (dk_at dksX6_date1_2 0 rfl rfl)
theorem dX6_date1_49 : decode cX6_date1 49 = .ok (.lload 4, 2) := dk_22 4 (dk_at dksX6_date1_2 3 rfl rfl)
theorem dX6_date1_51 : decode cX6_date1 51 = .ok (.lconst 0, 1) := dk_9 (dk_at dksX6_date1_2 5 rfl rfl)
theorem dX6_date1_52 : decode cX6_date1 52 = .ok (.lcmp, 1) := dk_148 (dk_at dksX6_date1_2 6 rfl rfl)
theorem dX6_date1_53 : decode cX6_date1 53 = .ok (.ifCond .le 9, 3) := dk_158 0 9 (dk_at dksX6_date1_2 7 rfl rfl)
theorem dX6_date1_56 : decode cX6_date1 56 = .ok (.ldc2_w 379, 3) := dk_20 1 123 (dk_at dksX6_date1_2 10 rfl rfl)
theorem dX6_date1_59 : decode cX6_date1 59 = .ok (.goto 28, 3) := dk_167 0 28 (dk_at dksX6_date1_2 13 rfl rfl)
theorem dX6_date1_62 : decode cX6_date1 62 = .ok (.lload_n 2, 1) := dk_32 (dk_at dksX6_date1_2 16 rfl rfl)
theorem dX6_date1_63 : decode cX6_date1 63 = .ok (.aload_n 0, 1) := dk_42 (dk_at dksX6_date1_2 17 rfl rfl)
theorem dX6_date1_64 : decode cX6_date1 64 = .ok (.getfield 26, 3) := dk_180 0 26 (dk_at dksX6_date1_2 18 rfl rfl)
theorem dX6_date1_67 : decode cX6_date1 67 = .ok (.iconst 3, 1) := dk_6 (dk_at dksX6_date1_2 21 rfl rfl)
theorem dX6_date1_68 : decode cX6_date1 68 = .ok (.iload_n 1, 1) := dk_27 (dk_at dksX6_date1_2 22 rfl rfl)
theorem dX6_date1_69 : decode cX6_date1 69 = .ok (.imul, 1) := dk_104 (dk_at dksX6_date1_2 23 rfl rfl)
theorem dX6_date1_70 : decode cX6_date1 70 = .ok (.iconst 2, 1) := dk_5 (dk_at dksX6_date1_3 0 rfl rfl)
theorem dX6_date1_71 : decode cX6_date1 71 = .ok (.iadd, 1) := dk_96 (dk_at dksX6_date1_3 1 rfl rfl)
theorem dX6_date1_72 : decode cX6_date1 72 = .ok (.iaload, 1) := dk_46 (dk_at dksX6_date1_3 2 rfl rfl)
theorem dX6_date1_73 : decode cX6_date1 73 = .ok (.i2l, 1) := dk_133 (dk_at dksX6_date1_3 3 rfl rfl)
theorem dX6_date1_74 : decode cX6_date1 74 = .ok (.lsub, 1) := dk_101 (dk_at dksX6_date1_3 4 rfl rfl)
theorem dX6_date1_75 : decode cX6_date1 75 = .ok (.aload_n 0, 1) := dk_42 (dk_at dksX6_date1_3 5 rfl rfl)
theorem dX6_date1_76 : decode cX6_date1 76 = .ok (.getfield 26, 3) := dk_180 0 26 (dk_at dksX6_date1_3 6 rfl rfl)
theorem dX6_date1_79 : decode cX6_date1 79 = .ok (.iconst 3, 1) := dk_6 (dk_at dksX6_date1_3 9 rfl rfl)
theorem dX6_date1_80 : decode cX6_date1 80 = .ok (.iload_n 1, 1) := dk_27 (dk_at dksX6_date1_3 10 rfl rfl)
theorem dX6_date1_81 : decode cX6_date1 81 = .ok (.imul, 1) := dk_104 (dk_at dksX6_date1_3 11 rfl rfl)
theorem dX6_date1_82 : decode cX6_date1 82 = .ok (.iaload, 1) := dk_46 (dk_at dksX6_date1_3 12 rfl rfl)
theorem dX6_date1_83 : decode cX6_date1 83 = .ok (.i2l, 1) := dk_133 (dk_at dksX6_date1_3 13 rfl rfl)
theorem dX6_date1_84 : decode cX6_date1 84 = .ok (.ldiv, 1) := dk_109 (dk_at dksX6_date1_3 14 rfl rfl)
theorem dX6_date1_85 : decode cX6_date1 85 = .ok (.lconst 1, 1) := dk_10 (dk_at dksX6_date1_3 15 rfl rfl)
theorem dX6_date1_86 : decode cX6_date1 86 = .ok (.ladd, 1) := dk_97 (dk_at dksX6_date1_3 16 rfl rfl)
theorem dX6_date1_87 : decode cX6_date1 87 = .ok (.lstore 8, 2) := dk_55 8 (dk_at dksX6_date1_3 17 rfl rfl)
theorem dX6_date1_89 : decode cX6_date1 89 = .ok (.lload 6, 2) := dk_22 6 (dk_at dksX6_date1_3 19 rfl rfl)
theorem dX6_date1_91 : decode cX6_date1 91 = .ok (.lload 8, 2) := dk_22 8 (dk_at dksX6_date1_3 21 rfl rfl)
theorem dX6_date1_93 : decode cX6_date1 93 = .ok (.lcmp, 1) := dk_148 (dk_at dksX6_date1_3 23 rfl rfl)
theorem dX6_date1_94 : decode cX6_date1 94 = .ok (.ifCond .ge 44, 3) := dk_156 0 44 (dk_at dksX6_date1_4 0 rfl rfl)
theorem dX6_date1_97 : decode cX6_date1 97 = .ok (.lload 6, 2) := dk_22 6 (dk_at dksX6_date1_4 3 rfl rfl)
theorem dX6_date1_99 : decode cX6_date1 99 = .ok (.lload 8, 2) := dk_22 8 (dk_at dksX6_date1_4 5 rfl rfl)
theorem dX6_date1_101 : decode cX6_date1 101 = .ok (.ladd, 1) := dk_97 (dk_at dksX6_date1_4 7 rfl rfl)
theorem dX6_date1_102 : decode cX6_date1 102 = .ok (.lconst 1, 1) := dk_10 (dk_at dksX6_date1_4 8 rfl rfl)
theorem dX6_date1_103 : decode cX6_date1 103 = .ok (.ladd, 1) := dk_97 (dk_at dksX6_date1_4 9 rfl rfl)
theorem dX6_date1_104 : decode cX6_date1 104 = .ok (.ldc2_w 383, 3) := dk_20 1 127 (dk_at dksX6_date1_4 10 rfl rfl)
theorem dX6_date1_107 : decode cX6_date1 107 = .ok (.ldiv, 1) := dk_109 (dk_at dksX6_date1_4 13 rfl rfl)
theorem dX6_date1_108 : decode cX6_date1 108 = .ok (.lstore 10, 2) := dk_55 10 (dk_at dksX6_date1_4 14 rfl rfl)
theorem dX6_date1_110 : decode cX6_date1 110 = .ok (.aload_n 0, 1) := dk_42 (dk_at dksX6_date1_4 16 rfl rfl)
theorem dX6_date1_111 : decode cX6_date1 111 = .ok (.iload_n 1, 1) := dk_27 (dk_at dksX6_date1_4 17 rfl rfl)
theorem dX6_date1_112 : decode cX6_date1 112 = .ok (.lload 10, 2) := dk_22 10 (dk_at dksX6_date1_4 18 rfl rfl)
theorem dX6_date1_114 : decode cX6_date1 114 = .ok (.invokevirtual 389, 3) := dk_182 1 133 (dk_at dksX6_date1_4 20 rfl rfl)
theorem dX6_date1_117 : decode cX6_date1 117 = .ok (.lload_n 2, 1) := dk_32 (dk_at dksX6_date1_4 23 rfl rfl)
theorem dX6_date1_118 : decode cX6_date1 118 = .ok (.lcmp, 1) := dk_148 (dk_at dksX6_date1_5 0 rfl rfl)
theorem dX6_date1_119 : decode cX6_date1 119 = .ok (.ifCond .gt 10, 3) := dk_157 0 10 (dk_at dksX6_date1_5 1 rfl rfl)
theorem dX6_date1_122 : decode cX6_date1 122 = .ok (.lload 10, 2) := dk_22 10 (dk_at dksX6_date1_5 4 rfl rfl)
theorem dX6_date1_124 : decode cX6_date1 124 = .ok (.lstore 6, 2) := dk_55 6 (dk_at dksX6_date1_5 6 rfl rfl)
theorem dX6_date1_126 : decode cX6_date1 126 = .ok (.goto 9, 3) := dk_167 0 9 (dk_at dksX6_date1_5 8 rfl rfl)
theorem dX6_date1_129 : decode cX6_date1 129 = .ok (.lload 10, 2) := dk_22 10 (dk_at dksX6_date1_5 11 rfl rfl)
theorem dX6_date1_131 : decode cX6_date1 131 = .ok (.lconst 1, 1) := dk_10 (dk_at dksX6_date1_5 13 rfl rfl)
theorem dX6_date1_132 : decode cX6_date1 132 = .ok (.lsub, 1) := dk_101 (dk_at dksX6_date1_5 14 rfl rfl)
theorem dX6_date1_133 : decode cX6_date1 133 = .ok (.lstore 8, 2) := dk_55 8 (dk_at dksX6_date1_5 15 rfl rfl)
theorem dX6_date1_135 : decode cX6_date1 135 = .ok (.goto (-46), 3) := dk_167 255 210 (dk_at dksX6_date1_5 17 rfl rfl)
theorem dX6_date1_138 : decode cX6_date1 138 = .ok (.aload_n 0, 1) := dk_42 (dk_at dksX6_date1_5 20 rfl rfl)
theorem dX6_date1_139 : decode cX6_date1 139 = .ok (.lload 6, 2) := dk_22 6 (dk_at dksX6_date1_5 21 rfl rfl)
theorem dX6_date1_141 : decode cX6_date1 141 = .ok (.putfield 396, 3) := dk_181 1 140 (dk_at dksX6_date1_6 0 rfl rfl)
theorem dX6_date1_144 : decode cX6_date1 144 = .ok (.aload_n 0, 1) := dk_42 (dk_at dksX6_date1_6 3 rfl rfl)
theorem dX6_date1_145 : decode cX6_date1 145 = .ok (.lload_n 2, 1) := dk_32 (dk_at dksX6_date1_6 4 rfl rfl)
theorem dX6_date1_146 : decode cX6_date1 146 = .ok (.aload_n 0, 1) := dk_42 (dk_at dksX6_date1_6 5 rfl rfl)
theorem dX6_date1_147 : decode cX6_date1 147 = .ok (.iload_n 1, 1) := dk_27 (dk_at dksX6_date1_6 6 rfl rfl)
theorem dX6_date1_148 : decode cX6_date1 148 = .ok (.lload 6, 2) := dk_22 6 (dk_at dksX6_date1_6 7 rfl rfl)
theorem dX6_date1_150 : decode cX6_date1 150 = .ok (.invokevirtual 389, 3) := dk_182 1 133 (dk_at dksX6_date1_6 9 rfl rfl)
theorem dX6_date1_153 : decode cX6_date1 153 = .ok (.lsub, 1) := dk_101 (dk_at dksX6_date1_6 12 rfl rfl)
theorem dX6_date1_154 : decode cX6_date1 154 = .ok (.lconst 1, 1) := dk_10 (dk_at dksX6_date1_6 13 rfl rfl)
theorem dX6_date1_155 : decode cX6_date1 155 = .ok (.ladd, 1) := dk_97 (dk_at dksX6_date1_6 14 rfl rfl)
theorem dX6_date1_156 : decode cX6_date1 156 = .ok (.putfield 399, 3) := dk_181 1 143 (dk_at dksX6_date1_6 15 rfl rfl)
theorem dX6_date1_159 : decode cX6_date1 159 = .ok (.aload_n 0, 1) := dk_42 (dk_at dksX6_date1_6 18 rfl rfl)
theorem dX6_date1_160 : decode cX6_date1 160 = .ok (.getfield 399, 3) := dk_180 1 143 (dk_at dksX6_date1_6 19 rfl rfl)
theorem dX6_date1_163 : decode cX6_date1 163 = .ok (.aload_n 0, 1) := dk_42 (dk_at dksX6_date1_6 22 rfl rfl)
theorem dX6_date1_164 : decode cX6_date1 164 = .ok (.iload_n 1, 1) := dk_27 (dk_at dksX6_date1_6 23 rfl rfl)
theorem dX6_date1_165 : decode cX6_date1 165 = .ok (.lload 6, 2) := dk_22 6 (dk_at dksX6_date1_7 0 rfl rfl)
theorem dX6_date1_167 : decode cX6_date1 167 = .ok (.invokevirtual 375, 3) := dk_182 1 119 (dk_at dksX6_date1_7 2 rfl rfl)
theorem dX6_date1_170 : decode cX6_date1 170 = .ok (.lcmp, 1) := dk_148 (dk_at dksX6_date1_7 5 rfl rfl)
theorem dX6_date1_171 : decode cX6_date1 171 = .ok (.ifCond .gt 7, 3) := dk_157 0 7 (dk_at dksX6_date1_7 6 rfl rfl)
theorem dX6_date1_174 : decode cX6_date1 174 = .ok (.iconst 1, 1) := dk_4 (dk_at dksX6_date1_7 9 rfl rfl)
theorem dX6_date1_175 : decode cX6_date1 175 = .ok (.goto 4, 3) := dk_167 0 4 (dk_at dksX6_date1_7 10 rfl rfl)
theorem dX6_date1_178 : decode cX6_date1 178 = .ok (.iconst 0, 1) := dk_3 (dk_at dksX6_date1_7 13 rfl rfl)
theorem dX6_date1_179 : decode cX6_date1 179 = .ok (.ireturn, 1) := dk_172 (dk_at dksX6_date1_7 14 rfl rfl)
abbrev cX6_endYear : ByteArray := prog_20_method_55_code
def yX6_endYear : MethodName := ⟨RX6, "endYear", "(I)J"⟩
def dkwX6_endYear_1 : List UInt8 := [10, 97, 173]
abbrev dktX6_endYear_1 : List UInt8 := dkwX6_endYear_1 ++ []
def dkwX6_endYear_0 : List UInt8 := [42, 180, 0, 26, 6, 27, 104, 46, 133, 10, 101, 42, 180, 0, 26, 6, 27, 104, 4, 96, 46, 116, 133, 109]
abbrev dktX6_endYear_0 : List UInt8 := dkwX6_endYear_0 ++ dktX6_endYear_1
theorem dksX6_endYear_0 : cX6_endYear.data.toList.drop 0 = dktX6_endYear_0 := by decide +kernel
theorem dksX6_endYear_1 : cX6_endYear.data.toList.drop 24 = dktX6_endYear_1 := dk_seg dksX6_endYear_0 24 rfl rfl
theorem dX6_endYear_0 : decode cX6_endYear 0 = .ok (.aload_n 0, 1) := dk_42 (dk_at dksX6_endYear_0 0 rfl rfl)
theorem dX6_endYear_1 : decode cX6_endYear 1 = .ok (.getfield 26, 3) := dk_180 0 26 (dk_at dksX6_endYear_0 1 rfl rfl)
theorem dX6_endYear_4 : decode cX6_endYear 4 = .ok (.iconst 3, 1) := dk_6 (dk_at dksX6_endYear_0 4 rfl rfl)
theorem dX6_endYear_5 : decode cX6_endYear 5 = .ok (.iload_n 1, 1) := dk_27 (dk_at dksX6_endYear_0 5 rfl rfl)
theorem dX6_endYear_6 : decode cX6_endYear 6 = .ok (.imul, 1) := dk_104 (dk_at dksX6_endYear_0 6 rfl rfl)
theorem dX6_endYear_7 : decode cX6_endYear 7 = .ok (.iaload, 1) := dk_46 (dk_at dksX6_endYear_0 7 rfl rfl)
theorem dX6_endYear_8 : decode cX6_endYear 8 = .ok (.i2l, 1) := dk_133 (dk_at dksX6_endYear_0 8 rfl rfl)
theorem dX6_endYear_9 : decode cX6_endYear 9 = .ok (.lconst 1, 1) := dk_10 (dk_at dksX6_endYear_0 9 rfl rfl)
theorem dX6_endYear_10 : decode cX6_endYear 10 = .ok (.lsub, 1) := dk_101 (dk_at dksX6_endYear_0 10 rfl rfl)
theorem dX6_endYear_11 : decode cX6_endYear 11 = .ok (.aload_n 0, 1) := dk_42 (dk_at dksX6_endYear_0 11 rfl rfl)
theorem dX6_endYear_12 : decode cX6_endYear 12 = .ok (.getfield 26, 3) := dk_180 0 26 (dk_at dksX6_endYear_0 12 rfl rfl)
theorem dX6_endYear_15 : decode cX6_endYear 15 = .ok (.iconst 3, 1) := dk_6 (dk_at dksX6_endYear_0 15 rfl rfl)
theorem dX6_endYear_16 : decode cX6_endYear 16 = .ok (.iload_n 1, 1) := dk_27 (dk_at dksX6_endYear_0 16 rfl rfl)
theorem dX6_endYear_17 : decode cX6_endYear 17 = .ok (.imul, 1) := dk_104 (dk_at dksX6_endYear_0 17 rfl rfl)
theorem dX6_endYear_18 : decode cX6_endYear 18 = .ok (.iconst 1, 1) := dk_4 (dk_at dksX6_endYear_0 18 rfl rfl)
theorem dX6_endYear_19 : decode cX6_endYear 19 = .ok (.iadd, 1) := dk_96 (dk_at dksX6_endYear_0 19 rfl rfl)
theorem dX6_endYear_20 : decode cX6_endYear 20 = .ok (.iaload, 1) := dk_46 (dk_at dksX6_endYear_0 20 rfl rfl)
theorem dX6_endYear_21 : decode cX6_endYear 21 = .ok (.ineg, 1) := dk_116 (dk_at dksX6_endYear_0 21 rfl rfl)
theorem dX6_endYear_22 : decode cX6_endYear 22 = .ok (.i2l, 1) := dk_133 (dk_at dksX6_endYear_0 22 rfl rfl)
theorem dX6_endYear_23 : decode cX6_endYear 23 = .ok (.ldiv, 1) := dk_109 (dk_at dksX6_endYear_0 23 rfl rfl)
theorem dX6_endYear_24 : decode cX6_endYear 24 = .ok (.lconst 1, 1) := dk_10 (dk_at dksX6_endYear_1 0 rfl rfl)
theorem dX6_endYear_25 : decode cX6_endYear 25 = .ok (.ladd, 1) := dk_97 (dk_at dksX6_endYear_1 1 rfl rfl)
theorem dX6_endYear_26 : decode cX6_endYear 26 = .ok (.lreturn, 1) := dk_173 (dk_at dksX6_endYear_1 2 rfl rfl)
abbrev cX6_count : ByteArray := prog_20_method_64_code
def yX6_count : MethodName := ⟨RX6, "count", "(IIJ)J"⟩
def dkwX6_count_1 : List UInt8 := [33, 182, 1, 19, 167, 0, 6, 20, 1, 17, 173]
abbrev dktX6_count_1 : List UInt8 := dkwX6_count_1 ++ []
def dkwX6_count_0 : List UInt8 := [42, 3, 181, 0, 119, 42, 27, 182, 1, 148, 153, 0, 21, 28, 19, 1, 163, 163, 0, 14, 42, 27, 28, 133]
abbrev dktX6_count_0 : List UInt8 := dkwX6_count_0 ++ dktX6_count_1
theorem dksX6_count_0 : cX6_count.data.toList.drop 0 = dktX6_count_0 := by decide +kernel
theorem dksX6_count_1 : cX6_count.data.toList.drop 24 = dktX6_count_1 := dk_seg dksX6_count_0 24 rfl rfl
theorem dX6_count_0 : decode cX6_count 0 = .ok (.aload_n 0, 1) := dk_42 (dk_at dksX6_count_0 0 rfl rfl)
theorem dX6_count_1 : decode cX6_count 1 = .ok (.iconst 0, 1) := dk_3 (dk_at dksX6_count_0 1 rfl rfl)
theorem dX6_count_2 : decode cX6_count 2 = .ok (.putfield 119, 3) := dk_181 0 119 (dk_at dksX6_count_0 2 rfl rfl)
theorem dX6_count_5 : decode cX6_count 5 = .ok (.aload_n 0, 1) := dk_42 (dk_at dksX6_count_0 5 rfl rfl)
theorem dX6_count_6 : decode cX6_count 6 = .ok (.iload_n 1, 1) := dk_27 (dk_at dksX6_count_0 6 rfl rfl)
theorem dX6_count_7 : decode cX6_count 7 = .ok (.invokevirtual 404, 3) := dk_182 1 148 (dk_at dksX6_count_0 7 rfl rfl)
theorem dX6_count_10 : decode cX6_count 10 = .ok (.ifCond .eq 21, 3) := dk_153 0 21 (dk_at dksX6_count_0 10 rfl rfl)
theorem dX6_count_13 : decode cX6_count 13 = .ok (.iload_n 2, 1) := dk_28 (dk_at dksX6_count_0 13 rfl rfl)
theorem dX6_count_14 : decode cX6_count 14 = .ok (.ldc_w 419, 3) := dk_19 1 163 (dk_at dksX6_count_0 14 rfl rfl)
theorem dX6_count_17 : decode cX6_count 17 = .ok (.if_icmp .gt 14, 3) := dk_163 0 14 (dk_at dksX6_count_0 17 rfl rfl)
theorem dX6_count_20 : decode cX6_count 20 = .ok (.aload_n 0, 1) := dk_42 (dk_at dksX6_count_0 20 rfl rfl)
theorem dX6_count_21 : decode cX6_count 21 = .ok (.iload_n 1, 1) := dk_27 (dk_at dksX6_count_0 21 rfl rfl)
theorem dX6_count_22 : decode cX6_count 22 = .ok (.iload_n 2, 1) := dk_28 (dk_at dksX6_count_0 22 rfl rfl)
theorem dX6_count_23 : decode cX6_count 23 = .ok (.i2l, 1) := dk_133 (dk_at dksX6_count_0 23 rfl rfl)
theorem dX6_count_24 : decode cX6_count 24 = .ok (.lload_n 3, 1) := dk_33 (dk_at dksX6_count_1 0 rfl rfl)
theorem dX6_count_25 : decode cX6_count 25 = .ok (.invokevirtual 275, 3) := dk_182 1 19 (dk_at dksX6_count_1 1 rfl rfl)
theorem dX6_count_28 : decode cX6_count 28 = .ok (.goto 6, 3) := dk_167 0 6 (dk_at dksX6_count_1 4 rfl rfl)
theorem dX6_count_31 : decode cX6_count 31 = .ok (.ldc2_w 273, 3) := dk_20 1 17 (dk_at dksX6_count_1 7 rfl rfl)
theorem dX6_count_34 : decode cX6_count 34 = .ok (.lreturn, 1) := dk_173 (dk_at dksX6_count_1 10 rfl rfl)
abbrev cX6_round : ByteArray := prog_20_method_66_code
def yX6_round : MethodName := ⟨RX6, "round", "(JI)I"⟩
def dkwX6_round_1 : List UInt8 := [182, 1, 168, 167, 0, 4, 2, 172]
abbrev dktX6_round_1 : List UInt8 := dkwX6_round_1 ++ []
def dkwX6_round_0 : List UInt8 := [42, 3, 181, 0, 119, 31, 184, 1, 157, 153, 0, 21, 29, 3, 5, 184, 0, 166, 153, 0, 12, 42, 31, 29]
abbrev dktX6_round_0 : List UInt8 := dkwX6_round_0 ++ dktX6_round_1
theorem dksX6_round_0 : cX6_round.data.toList.drop 0 = dktX6_round_0 := by decide +kernel
theorem dksX6_round_1 : cX6_round.data.toList.drop 24 = dktX6_round_1 := dk_seg dksX6_round_0 24 rfl rfl
theorem dX6_round_0 : decode cX6_round 0 = .ok (.aload_n 0, 1) := dk_42 (dk_at dksX6_round_0 0 rfl rfl)
theorem dX6_round_1 : decode cX6_round 1 = .ok (.iconst 0, 1) := dk_3 (dk_at dksX6_round_0 1 rfl rfl)
theorem dX6_round_2 : decode cX6_round 2 = .ok (.putfield 119, 3) := dk_181 0 119 (dk_at dksX6_round_0 2 rfl rfl)
theorem dX6_round_5 : decode cX6_round 5 = .ok (.lload_n 1, 1) := dk_31 (dk_at dksX6_round_0 5 rfl rfl)
theorem dX6_round_6 : decode cX6_round 6 = .ok (.invokestatic 413, 3) := dk_184 1 157 (dk_at dksX6_round_0 6 rfl rfl)
theorem dX6_round_9 : decode cX6_round 9 = .ok (.ifCond .eq 21, 3) := dk_153 0 21 (dk_at dksX6_round_0 9 rfl rfl)
theorem dX6_round_12 : decode cX6_round 12 = .ok (.iload_n 3, 1) := dk_29 (dk_at dksX6_round_0 12 rfl rfl)
theorem dX6_round_13 : decode cX6_round 13 = .ok (.iconst 0, 1) := dk_3 (dk_at dksX6_round_0 13 rfl rfl)
theorem dX6_round_14 : decode cX6_round 14 = .ok (.iconst 2, 1) := dk_5 (dk_at dksX6_round_0 14 rfl rfl)
theorem dX6_round_15 : decode cX6_round 15 = .ok (.invokestatic 166, 3) := dk_184 0 166 (dk_at dksX6_round_0 15 rfl rfl)
theorem dX6_round_18 : decode cX6_round 18 = .ok (.ifCond .eq 12, 3) := dk_153 0 12 (dk_at dksX6_round_0 18 rfl rfl)
theorem dX6_round_21 : decode cX6_round 21 = .ok (.aload_n 0, 1) := dk_42 (dk_at dksX6_round_0 21 rfl rfl)
theorem dX6_round_22 : decode cX6_round 22 = .ok (.lload_n 1, 1) := dk_31 (dk_at dksX6_round_0 22 rfl rfl)
theorem dX6_round_23 : decode cX6_round 23 = .ok (.iload_n 3, 1) := dk_29 (dk_at dksX6_round_0 23 rfl rfl)
theorem dX6_round_24 : decode cX6_round 24 = .ok (.invokevirtual 424, 3) := dk_182 1 168 (dk_at dksX6_round_1 0 rfl rfl)
theorem dX6_round_27 : decode cX6_round 27 = .ok (.goto 4, 3) := dk_167 0 4 (dk_at dksX6_round_1 3 rfl rfl)
theorem dX6_round_30 : decode cX6_round 30 = .ok (.iconst (-1), 1) := dk_2 (dk_at dksX6_round_1 6 rfl rfl)
theorem dX6_round_31 : decode cX6_round 31 = .ok (.ireturn, 1) := dk_172 (dk_at dksX6_round_1 7 rfl rfl)
abbrev cX6_roundOf : ByteArray := prog_20_method_65_code
def yX6_roundOf : MethodName := ⟨RX6, "roundOf", "(JI)I"⟩
def dkwX6_roundOf_4 : List UInt8 := [8, 46, 133, 109, 136, 172]
abbrev dktX6_roundOf_4 : List UInt8 := dkwX6_roundOf_4 ++ []
def dkwX6_roundOf_3 : List UInt8 := [180, 0, 20, 16, 6, 46, 133, 105, 42, 180, 0, 20, 8, 46, 133, 113, 20, 1, 166, 105, 42, 180, 0, 20]
abbrev dktX6_roundOf_3 : List UInt8 := dkwX6_roundOf_3 ++ dktX6_roundOf_4
def dkwX6_roundOf_2 : List UInt8 := [180, 0, 20, 5, 46, 133, 113, 20, 1, 164, 105, 42, 180, 0, 20, 5, 46, 133, 109, 136, 172, 31, 42]
abbrev dktX6_roundOf_2 : List UInt8 := dkwX6_roundOf_2 ++ dktX6_roundOf_3
def dkwX6_roundOf_1 : List UInt8 := [4, 160, 0, 42, 31, 42, 180, 0, 20, 6, 46, 133, 105, 42, 180, 0, 20, 7, 46, 133, 97, 42]
abbrev dktX6_roundOf_1 : List UInt8 := dkwX6_roundOf_1 ++ dktX6_roundOf_2
def dkwX6_roundOf_0 : List UInt8 := [29, 154, 0, 22, 31, 42, 180, 0, 20, 4, 46, 133, 97, 42, 180, 0, 20, 3, 46, 133, 113, 136, 172, 29]
abbrev dktX6_roundOf_0 : List UInt8 := dkwX6_roundOf_0 ++ dktX6_roundOf_1
theorem dksX6_roundOf_0 : cX6_roundOf.data.toList.drop 0 = dktX6_roundOf_0 := by decide +kernel
theorem dksX6_roundOf_1 : cX6_roundOf.data.toList.drop 24 = dktX6_roundOf_1 := dk_seg dksX6_roundOf_0 24 rfl rfl
theorem dksX6_roundOf_2 : cX6_roundOf.data.toList.drop 46 = dktX6_roundOf_2 := dk_seg dksX6_roundOf_1 22 rfl rfl
theorem dksX6_roundOf_3 : cX6_roundOf.data.toList.drop 69 = dktX6_roundOf_3 := dk_seg dksX6_roundOf_2 23 rfl rfl
theorem dksX6_roundOf_4 : cX6_roundOf.data.toList.drop 93 = dktX6_roundOf_4 := dk_seg dksX6_roundOf_3 24 rfl rfl
theorem dX6_roundOf_0 : decode cX6_roundOf 0 = .ok (.iload_n 3, 1) := dk_29 (dk_at dksX6_roundOf_0 0 rfl rfl)
theorem dX6_roundOf_1 : decode cX6_roundOf 1 = .ok (.ifCond .ne 22, 3) := dk_154 0 22 (dk_at dksX6_roundOf_0 1 rfl rfl)
theorem dX6_roundOf_4 : decode cX6_roundOf 4 = .ok (.lload_n 1, 1) := dk_31 (dk_at dksX6_roundOf_0 4 rfl rfl)
theorem dX6_roundOf_5 : decode cX6_roundOf 5 = .ok (.aload_n 0, 1) := dk_42 (dk_at dksX6_roundOf_0 5 rfl rfl)
theorem dX6_roundOf_6 : decode cX6_roundOf 6 = .ok (.getfield 20, 3) := dk_180 0 20 (dk_at dksX6_roundOf_0 6 rfl rfl)
theorem dX6_roundOf_9 : decode cX6_roundOf 9 = .ok (.iconst 1, 1) := dk_4 (dk_at dksX6_roundOf_0 9 rfl rfl)
theorem dX6_roundOf_10 : decode cX6_roundOf 10 = .ok (.iaload, 1) := dk_46 (dk_at dksX6_roundOf_0 10 rfl rfl)
theorem dX6_roundOf_11 : decode cX6_roundOf 11 = .ok (.i2l, 1) := dk_133 (dk_at dksX6_roundOf_0 11 rfl rfl)
theorem dX6_roundOf_12 : decode cX6_roundOf 12 = .ok (.ladd, 1) := dk_97 (dk_at dksX6_roundOf_0 12 rfl rfl)
theorem dX6_roundOf_13 : decode cX6_roundOf 13 = .ok (.aload_n 0, 1) := dk_42 (dk_at dksX6_roundOf_0 13 rfl rfl)
theorem dX6_roundOf_14 : decode cX6_roundOf 14 = .ok (.getfield 20, 3) := dk_180 0 20 (dk_at dksX6_roundOf_0 14 rfl rfl)
theorem dX6_roundOf_17 : decode cX6_roundOf 17 = .ok (.iconst 0, 1) := dk_3 (dk_at dksX6_roundOf_0 17 rfl rfl)
theorem dX6_roundOf_18 : decode cX6_roundOf 18 = .ok (.iaload, 1) := dk_46 (dk_at dksX6_roundOf_0 18 rfl rfl)
theorem dX6_roundOf_19 : decode cX6_roundOf 19 = .ok (.i2l, 1) := dk_133 (dk_at dksX6_roundOf_0 19 rfl rfl)
theorem dX6_roundOf_20 : decode cX6_roundOf 20 = .ok (.lrem, 1) := dk_113 (dk_at dksX6_roundOf_0 20 rfl rfl)
theorem dX6_roundOf_21 : decode cX6_roundOf 21 = .ok (.l2i, 1) := dk_136 (dk_at dksX6_roundOf_0 21 rfl rfl)
theorem dX6_roundOf_22 : decode cX6_roundOf 22 = .ok (.ireturn, 1) := dk_172 (dk_at dksX6_roundOf_0 22 rfl rfl)
theorem dX6_roundOf_23 : decode cX6_roundOf 23 = .ok (.iload_n 3, 1) := dk_29 (dk_at dksX6_roundOf_0 23 rfl rfl)
theorem dX6_roundOf_24 : decode cX6_roundOf 24 = .ok (.iconst 1, 1) := dk_4 (dk_at dksX6_roundOf_1 0 rfl rfl)
theorem dX6_roundOf_25 : decode cX6_roundOf 25 = .ok (.if_icmp .ne 42, 3) := dk_160 0 42 (dk_at dksX6_roundOf_1 1 rfl rfl)
theorem dX6_roundOf_28 : decode cX6_roundOf 28 = .ok (.lload_n 1, 1) := dk_31 (dk_at dksX6_roundOf_1 4 rfl rfl)
theorem dX6_roundOf_29 : decode cX6_roundOf 29 = .ok (.aload_n 0, 1) := dk_42 (dk_at dksX6_roundOf_1 5 rfl rfl)
theorem dX6_roundOf_30 : decode cX6_roundOf 30 = .ok (.getfield 20, 3) := dk_180 0 20 (dk_at dksX6_roundOf_1 6 rfl rfl)
theorem dX6_roundOf_33 : decode cX6_roundOf 33 = .ok (.iconst 3, 1) := dk_6 (dk_at dksX6_roundOf_1 9 rfl rfl)
theorem dX6_roundOf_34 : decode cX6_roundOf 34 = .ok (.iaload, 1) := dk_46 (dk_at dksX6_roundOf_1 10 rfl rfl)
theorem dX6_roundOf_35 : decode cX6_roundOf 35 = .ok (.i2l, 1) := dk_133 (dk_at dksX6_roundOf_1 11 rfl rfl)
theorem dX6_roundOf_36 : decode cX6_roundOf 36 = .ok (.lmul, 1) := dk_105 (dk_at dksX6_roundOf_1 12 rfl rfl)
theorem dX6_roundOf_37 : decode cX6_roundOf 37 = .ok (.aload_n 0, 1) := dk_42 (dk_at dksX6_roundOf_1 13 rfl rfl)
theorem dX6_roundOf_38 : decode cX6_roundOf 38 = .ok (.getfield 20, 3) := dk_180 0 20 (dk_at dksX6_roundOf_1 14 rfl rfl)
theorem dX6_roundOf_41 : decode cX6_roundOf 41 = .ok (.iconst 4, 1) := dk_7 (dk_at dksX6_roundOf_1 17 rfl rfl)
theorem dX6_roundOf_42 : decode cX6_roundOf 42 = .ok (.iaload, 1) := dk_46 (dk_at dksX6_roundOf_1 18 rfl rfl)
theorem dX6_roundOf_43 : decode cX6_roundOf 43 = .ok (.i2l, 1) := dk_133 (dk_at dksX6_roundOf_1 19 rfl rfl)
theorem dX6_roundOf_44 : decode cX6_roundOf 44 = .ok (.ladd, 1) := dk_97 (dk_at dksX6_roundOf_1 20 rfl rfl)
theorem dX6_roundOf_45 : decode cX6_roundOf 45 = .ok (.aload_n 0, 1) := dk_42 (dk_at dksX6_roundOf_1 21 rfl rfl)
theorem dX6_roundOf_46 : decode cX6_roundOf 46 = .ok (.getfield 20, 3) := dk_180 0 20 (dk_at dksX6_roundOf_2 0 rfl rfl)
theorem dX6_roundOf_49 : decode cX6_roundOf 49 = .ok (.iconst 2, 1) := dk_5 (dk_at dksX6_roundOf_2 3 rfl rfl)
theorem dX6_roundOf_50 : decode cX6_roundOf 50 = .ok (.iaload, 1) := dk_46 (dk_at dksX6_roundOf_2 4 rfl rfl)
theorem dX6_roundOf_51 : decode cX6_roundOf 51 = .ok (.i2l, 1) := dk_133 (dk_at dksX6_roundOf_2 5 rfl rfl)
theorem dX6_roundOf_52 : decode cX6_roundOf 52 = .ok (.lrem, 1) := dk_113 (dk_at dksX6_roundOf_2 6 rfl rfl)
theorem dX6_roundOf_53 : decode cX6_roundOf 53 = .ok (.ldc2_w 420, 3) := dk_20 1 164 (dk_at dksX6_roundOf_2 7 rfl rfl)
theorem dX6_roundOf_56 : decode cX6_roundOf 56 = .ok (.lmul, 1) := dk_105 (dk_at dksX6_roundOf_2 10 rfl rfl)
theorem dX6_roundOf_57 : decode cX6_roundOf 57 = .ok (.aload_n 0, 1) := dk_42 (dk_at dksX6_roundOf_2 11 rfl rfl)
theorem dX6_roundOf_58 : decode cX6_roundOf 58 = .ok (.getfield 20, 3) := dk_180 0 20 (dk_at dksX6_roundOf_2 12 rfl rfl)
theorem dX6_roundOf_61 : decode cX6_roundOf 61 = .ok (.iconst 2, 1) := dk_5 (dk_at dksX6_roundOf_2 15 rfl rfl)
theorem dX6_roundOf_62 : decode cX6_roundOf 62 = .ok (.iaload, 1) := dk_46 (dk_at dksX6_roundOf_2 16 rfl rfl)
theorem dX6_roundOf_63 : decode cX6_roundOf 63 = .ok (.i2l, 1) := dk_133 (dk_at dksX6_roundOf_2 17 rfl rfl)
theorem dX6_roundOf_64 : decode cX6_roundOf 64 = .ok (.ldiv, 1) := dk_109 (dk_at dksX6_roundOf_2 18 rfl rfl)
theorem dX6_roundOf_65 : decode cX6_roundOf 65 = .ok (.l2i, 1) := dk_136 (dk_at dksX6_roundOf_2 19 rfl rfl)
theorem dX6_roundOf_66 : decode cX6_roundOf 66 = .ok (.ireturn, 1) := dk_172 (dk_at dksX6_roundOf_2 20 rfl rfl)
theorem dX6_roundOf_67 : decode cX6_roundOf 67 = .ok (.lload_n 1, 1) := dk_31 (dk_at dksX6_roundOf_2 21 rfl rfl)
theorem dX6_roundOf_68 : decode cX6_roundOf 68 = .ok (.aload_n 0, 1) := dk_42 (dk_at dksX6_roundOf_2 22 rfl rfl)
theorem dX6_roundOf_69 : decode cX6_roundOf 69 = .ok (.getfield 20, 3) := dk_180 0 20 (dk_at dksX6_roundOf_3 0 rfl rfl)
theorem dX6_roundOf_72 : decode cX6_roundOf 72 = .ok (.bipush 6, 2) := dk_16 6 (dk_at dksX6_roundOf_3 3 rfl rfl)
theorem dX6_roundOf_74 : decode cX6_roundOf 74 = .ok (.iaload, 1) := dk_46 (dk_at dksX6_roundOf_3 5 rfl rfl)
theorem dX6_roundOf_75 : decode cX6_roundOf 75 = .ok (.i2l, 1) := dk_133 (dk_at dksX6_roundOf_3 6 rfl rfl)
theorem dX6_roundOf_76 : decode cX6_roundOf 76 = .ok (.lmul, 1) := dk_105 (dk_at dksX6_roundOf_3 7 rfl rfl)
theorem dX6_roundOf_77 : decode cX6_roundOf 77 = .ok (.aload_n 0, 1) := dk_42 (dk_at dksX6_roundOf_3 8 rfl rfl)
theorem dX6_roundOf_78 : decode cX6_roundOf 78 = .ok (.getfield 20, 3) := dk_180 0 20 (dk_at dksX6_roundOf_3 9 rfl rfl)
theorem dX6_roundOf_81 : decode cX6_roundOf 81 = .ok (.iconst 5, 1) := dk_8 (dk_at dksX6_roundOf_3 12 rfl rfl)
theorem dX6_roundOf_82 : decode cX6_roundOf 82 = .ok (.iaload, 1) := dk_46 (dk_at dksX6_roundOf_3 13 rfl rfl)
theorem dX6_roundOf_83 : decode cX6_roundOf 83 = .ok (.i2l, 1) := dk_133 (dk_at dksX6_roundOf_3 14 rfl rfl)
theorem dX6_roundOf_84 : decode cX6_roundOf 84 = .ok (.lrem, 1) := dk_113 (dk_at dksX6_roundOf_3 15 rfl rfl)
theorem dX6_roundOf_85 : decode cX6_roundOf 85 = .ok (.ldc2_w 422, 3) := dk_20 1 166 (dk_at dksX6_roundOf_3 16 rfl rfl)
theorem dX6_roundOf_88 : decode cX6_roundOf 88 = .ok (.lmul, 1) := dk_105 (dk_at dksX6_roundOf_3 19 rfl rfl)
theorem dX6_roundOf_89 : decode cX6_roundOf 89 = .ok (.aload_n 0, 1) := dk_42 (dk_at dksX6_roundOf_3 20 rfl rfl)
theorem dX6_roundOf_90 : decode cX6_roundOf 90 = .ok (.getfield 20, 3) := dk_180 0 20 (dk_at dksX6_roundOf_3 21 rfl rfl)
theorem dX6_roundOf_93 : decode cX6_roundOf 93 = .ok (.iconst 5, 1) := dk_8 (dk_at dksX6_roundOf_4 0 rfl rfl)
theorem dX6_roundOf_94 : decode cX6_roundOf 94 = .ok (.iaload, 1) := dk_46 (dk_at dksX6_roundOf_4 1 rfl rfl)
theorem dX6_roundOf_95 : decode cX6_roundOf 95 = .ok (.i2l, 1) := dk_133 (dk_at dksX6_roundOf_4 2 rfl rfl)
theorem dX6_roundOf_96 : decode cX6_roundOf 96 = .ok (.ldiv, 1) := dk_109 (dk_at dksX6_roundOf_4 3 rfl rfl)
theorem dX6_roundOf_97 : decode cX6_roundOf 97 = .ok (.l2i, 1) := dk_136 (dk_at dksX6_roundOf_4 4 rfl rfl)
theorem dX6_roundOf_98 : decode cX6_roundOf 98 = .ok (.ireturn, 1) := dk_172 (dk_at dksX6_roundOf_4 5 rfl rfl)
abbrev cX6_feast : ByteArray := prog_20_method_73_code
def yX6_feast : MethodName := ⟨RX6, "feast", "(IJ)I"⟩
def dkwX6_feast_1 : List UInt8 := [42, 27, 32, 182, 1, 195, 9, 148, 153, 0, 7, 4, 167, 0, 4, 3, 172]
abbrev dktX6_feast_1 : List UInt8 := dkwX6_feast_1 ++ []
def dkwX6_feast_0 : List UInt8 := [42, 3, 181, 0, 119, 42, 27, 182, 1, 192, 153, 0, 10, 32, 184, 1, 157, 154, 0, 7, 2, 167, 0, 19]
abbrev dktX6_feast_0 : List UInt8 := dkwX6_feast_0 ++ dktX6_feast_1
theorem dksX6_feast_0 : cX6_feast.data.toList.drop 0 = dktX6_feast_0 := by decide +kernel
theorem dksX6_feast_1 : cX6_feast.data.toList.drop 24 = dktX6_feast_1 := dk_seg dksX6_feast_0 24 rfl rfl
theorem dX6_feast_0 : decode cX6_feast 0 = .ok (.aload_n 0, 1) := dk_42 (dk_at dksX6_feast_0 0 rfl rfl)
theorem dX6_feast_1 : decode cX6_feast 1 = .ok (.iconst 0, 1) := dk_3 (dk_at dksX6_feast_0 1 rfl rfl)
theorem dX6_feast_2 : decode cX6_feast 2 = .ok (.putfield 119, 3) := dk_181 0 119 (dk_at dksX6_feast_0 2 rfl rfl)
theorem dX6_feast_5 : decode cX6_feast 5 = .ok (.aload_n 0, 1) := dk_42 (dk_at dksX6_feast_0 5 rfl rfl)
theorem dX6_feast_6 : decode cX6_feast 6 = .ok (.iload_n 1, 1) := dk_27 (dk_at dksX6_feast_0 6 rfl rfl)
theorem dX6_feast_7 : decode cX6_feast 7 = .ok (.invokevirtual 448, 3) := dk_182 1 192 (dk_at dksX6_feast_0 7 rfl rfl)
theorem dX6_feast_10 : decode cX6_feast 10 = .ok (.ifCond .eq 10, 3) := dk_153 0 10 (dk_at dksX6_feast_0 10 rfl rfl)
theorem dX6_feast_13 : decode cX6_feast 13 = .ok (.lload_n 2, 1) := dk_32 (dk_at dksX6_feast_0 13 rfl rfl)
theorem dX6_feast_14 : decode cX6_feast 14 = .ok (.invokestatic 413, 3) := dk_184 1 157 (dk_at dksX6_feast_0 14 rfl rfl)
theorem dX6_feast_17 : decode cX6_feast 17 = .ok (.ifCond .ne 7, 3) := dk_154 0 7 (dk_at dksX6_feast_0 17 rfl rfl)
theorem dX6_feast_20 : decode cX6_feast 20 = .ok (.iconst (-1), 1) := dk_2 (dk_at dksX6_feast_0 20 rfl rfl)
theorem dX6_feast_21 : decode cX6_feast 21 = .ok (.goto 19, 3) := dk_167 0 19 (dk_at dksX6_feast_0 21 rfl rfl)
theorem dX6_feast_24 : decode cX6_feast 24 = .ok (.aload_n 0, 1) := dk_42 (dk_at dksX6_feast_1 0 rfl rfl)
theorem dX6_feast_25 : decode cX6_feast 25 = .ok (.iload_n 1, 1) := dk_27 (dk_at dksX6_feast_1 1 rfl rfl)
theorem dX6_feast_26 : decode cX6_feast 26 = .ok (.lload_n 2, 1) := dk_32 (dk_at dksX6_feast_1 2 rfl rfl)
theorem dX6_feast_27 : decode cX6_feast 27 = .ok (.invokevirtual 451, 3) := dk_182 1 195 (dk_at dksX6_feast_1 3 rfl rfl)
theorem dX6_feast_30 : decode cX6_feast 30 = .ok (.lconst 0, 1) := dk_9 (dk_at dksX6_feast_1 6 rfl rfl)
theorem dX6_feast_31 : decode cX6_feast 31 = .ok (.lcmp, 1) := dk_148 (dk_at dksX6_feast_1 7 rfl rfl)
theorem dX6_feast_32 : decode cX6_feast 32 = .ok (.ifCond .eq 7, 3) := dk_153 0 7 (dk_at dksX6_feast_1 8 rfl rfl)
theorem dX6_feast_35 : decode cX6_feast 35 = .ok (.iconst 1, 1) := dk_4 (dk_at dksX6_feast_1 11 rfl rfl)
theorem dX6_feast_36 : decode cX6_feast 36 = .ok (.goto 4, 3) := dk_167 0 4 (dk_at dksX6_feast_1 12 rfl rfl)
theorem dX6_feast_39 : decode cX6_feast 39 = .ok (.iconst 0, 1) := dk_3 (dk_at dksX6_feast_1 15 rfl rfl)
theorem dX6_feast_40 : decode cX6_feast 40 = .ok (.ireturn, 1) := dk_172 (dk_at dksX6_feast_1 16 rfl rfl)
abbrev cX6_isFeast : ByteArray := prog_20_method_72_code
def yX6_isFeast : MethodName := ⟨RX6, "isFeast", "(I)Z"⟩
def dkwX6_isFeast_0 : List UInt8 := [27, 155, 0, 15, 27, 42, 180, 0, 220, 162, 0, 7, 4, 167, 0, 4, 3, 172]
abbrev dktX6_isFeast_0 : List UInt8 := dkwX6_isFeast_0 ++ []
theorem dksX6_isFeast_0 : cX6_isFeast.data.toList.drop 0 = dktX6_isFeast_0 := by decide +kernel
theorem dX6_isFeast_0 : decode cX6_isFeast 0 = .ok (.iload_n 1, 1) := dk_27 (dk_at dksX6_isFeast_0 0 rfl rfl)
theorem dX6_isFeast_1 : decode cX6_isFeast 1 = .ok (.ifCond .lt 15, 3) := dk_155 0 15 (dk_at dksX6_isFeast_0 1 rfl rfl)
theorem dX6_isFeast_4 : decode cX6_isFeast 4 = .ok (.iload_n 1, 1) := dk_27 (dk_at dksX6_isFeast_0 4 rfl rfl)
theorem dX6_isFeast_5 : decode cX6_isFeast 5 = .ok (.aload_n 0, 1) := dk_42 (dk_at dksX6_isFeast_0 5 rfl rfl)
theorem dX6_isFeast_6 : decode cX6_isFeast 6 = .ok (.getfield 220, 3) := dk_180 0 220 (dk_at dksX6_isFeast_0 6 rfl rfl)
theorem dX6_isFeast_9 : decode cX6_isFeast 9 = .ok (.if_icmp .ge 7, 3) := dk_162 0 7 (dk_at dksX6_isFeast_0 9 rfl rfl)
theorem dX6_isFeast_12 : decode cX6_isFeast 12 = .ok (.iconst 1, 1) := dk_4 (dk_at dksX6_isFeast_0 12 rfl rfl)
theorem dX6_isFeast_13 : decode cX6_isFeast 13 = .ok (.goto 4, 3) := dk_167 0 4 (dk_at dksX6_isFeast_0 13 rfl rfl)
theorem dX6_isFeast_16 : decode cX6_isFeast 16 = .ok (.iconst 0, 1) := dk_3 (dk_at dksX6_isFeast_0 16 rfl rfl)
theorem dX6_isFeast_17 : decode cX6_isFeast 17 = .ok (.ireturn, 1) := dk_172 (dk_at dksX6_isFeast_0 17 rfl rfl)
abbrev cX6_sumOf : ByteArray := prog_20_method_71_code
def yX6_sumOf : MethodName := ⟨RX6, "sumOf", "(IJ)J"⟩
def dkwX6_sumOf_7 : List UInt8 := [153, 0, 7, 9, 167, 0, 16, 42, 180, 0, 81, 42, 180, 0, 35, 27, 46, 4, 100, 47, 173]
abbrev dktX6_sumOf_7 : List UInt8 := dkwX6_sumOf_7 ++ []
def dkwX6_sumOf_6 : List UInt8 := [180, 0, 81, 21, 5, 42, 21, 5, 182, 1, 189, 80, 132, 5, 1, 167, 255, 229, 42, 180, 1, 172]
abbrev dktX6_sumOf_6 : List UInt8 := dkwX6_sumOf_6 ++ dktX6_sumOf_7
def dkwX6_sumOf_5 : List UInt8 := [3, 181, 1, 172, 42, 180, 0, 32, 27, 46, 54, 5, 21, 5, 42, 180, 0, 35, 27, 46, 162, 0, 22, 42]
abbrev dktX6_sumOf_5 : List UInt8 := dkwX6_sumOf_5 ++ dktX6_sumOf_6
def dkwX6_sumOf_4 : List UInt8 := [180, 0, 78, 8, 21, 4, 153, 0, 15, 42, 3, 42, 180, 1, 140, 182, 1, 119, 167, 0, 4, 9, 80, 42]
abbrev dktX6_sumOf_4 : List UInt8 := dkwX6_sumOf_4 ++ dktX6_sumOf_5
def dkwX6_sumOf_3 : List UInt8 := [180, 0, 78, 5, 21, 5, 96, 42, 32, 21, 5, 182, 1, 168, 133, 80, 132, 5, 1, 167, 255, 230, 42]
abbrev dktX6_sumOf_3 : List UInt8 := dkwX6_sumOf_3 ++ dktX6_sumOf_4
def dkwX6_sumOf_2 : List UInt8 := [21, 4, 153, 0, 10, 42, 180, 1, 140, 167, 0, 4, 9, 80, 3, 54, 5, 21, 5, 6, 162, 0, 26, 42]
abbrev dktX6_sumOf_2 : List UInt8 := dkwX6_sumOf_2 ++ dktX6_sumOf_3
def dkwX6_sumOf_1 : List UInt8 := [180, 0, 78, 3, 21, 4, 153, 0, 10, 42, 180, 1, 143, 167, 0, 4, 9, 80, 42, 180, 0, 78, 4]
abbrev dktX6_sumOf_1 : List UInt8 := dkwX6_sumOf_1 ++ dktX6_sumOf_2
def dkwX6_sumOf_0 : List UInt8 := [42, 180, 0, 217, 158, 0, 16, 42, 3, 32, 182, 1, 160, 153, 0, 7, 4, 167, 0, 4, 3, 54, 4, 42]
abbrev dktX6_sumOf_0 : List UInt8 := dkwX6_sumOf_0 ++ dktX6_sumOf_1
theorem dksX6_sumOf_0 : cX6_sumOf.data.toList.drop 0 = dktX6_sumOf_0 := by decide +kernel
theorem dksX6_sumOf_1 : cX6_sumOf.data.toList.drop 24 = dktX6_sumOf_1 := dk_seg dksX6_sumOf_0 24 rfl rfl
theorem dksX6_sumOf_2 : cX6_sumOf.data.toList.drop 47 = dktX6_sumOf_2 := dk_seg dksX6_sumOf_1 23 rfl rfl
theorem dksX6_sumOf_3 : cX6_sumOf.data.toList.drop 71 = dktX6_sumOf_3 := dk_seg dksX6_sumOf_2 24 rfl rfl
theorem dksX6_sumOf_4 : cX6_sumOf.data.toList.drop 94 = dktX6_sumOf_4 := dk_seg dksX6_sumOf_3 23 rfl rfl
theorem dksX6_sumOf_5 : cX6_sumOf.data.toList.drop 118 = dktX6_sumOf_5 := dk_seg dksX6_sumOf_4 24 rfl rfl
theorem dksX6_sumOf_6 : cX6_sumOf.data.toList.drop 142 = dktX6_sumOf_6 := dk_seg dksX6_sumOf_5 24 rfl rfl
theorem dksX6_sumOf_7 : cX6_sumOf.data.toList.drop 164 = dktX6_sumOf_7 := dk_seg dksX6_sumOf_6 22 rfl rfl
theorem dX6_sumOf_0 : decode cX6_sumOf 0 = .ok (.aload_n 0, 1) := dk_42 (dk_at dksX6_sumOf_0 0 rfl rfl)
theorem dX6_sumOf_1 : decode cX6_sumOf 1 = .ok (.getfield 217, 3) := dk_180 0 217 (dk_at dksX6_sumOf_0 1 rfl rfl)
theorem dX6_sumOf_4 : decode cX6_sumOf 4 = .ok (.ifCond .le 16, 3) := dk_158 0 16 (dk_at dksX6_sumOf_0 4 rfl rfl)
theorem dX6_sumOf_7 : decode cX6_sumOf 7 = .ok (.aload_n 0, 1) := dk_42 (dk_at dksX6_sumOf_0 7 rfl rfl)
theorem dX6_sumOf_8 : decode cX6_sumOf 8 = .ok (.iconst 0, 1) := dk_3 (dk_at dksX6_sumOf_0 8 rfl rfl)
theorem dX6_sumOf_9 : decode cX6_sumOf 9 = .ok (.lload_n 2, 1) := dk_32 (dk_at dksX6_sumOf_0 9 rfl rfl)
theorem dX6_sumOf_10 : decode cX6_sumOf 10 = .ok (.invokevirtual 416, 3) := dk_182 1 160 (dk_at dksX6_sumOf_0 10 rfl rfl)
theorem dX6_sumOf_13 : decode cX6_sumOf 13 = .ok (.ifCond .eq 7, 3) := dk_153 0 7 (dk_at dksX6_sumOf_0 13 rfl rfl)
theorem dX6_sumOf_16 : decode cX6_sumOf 16 = .ok (.iconst 1, 1) := dk_4 (dk_at dksX6_sumOf_0 16 rfl rfl)
theorem dX6_sumOf_17 : decode cX6_sumOf 17 = .ok (.goto 4, 3) := dk_167 0 4 (dk_at dksX6_sumOf_0 17 rfl rfl)
theorem dX6_sumOf_20 : decode cX6_sumOf 20 = .ok (.iconst 0, 1) := dk_3 (dk_at dksX6_sumOf_0 20 rfl rfl)
theorem dX6_sumOf_21 : decode cX6_sumOf 21 = .ok (.istore 4, 2) := dk_54 4 (dk_at dksX6_sumOf_0 21 rfl rfl)
theorem dX6_sumOf_23 : decode cX6_sumOf 23 = .ok (.aload_n 0, 1) := dk_42 (dk_at dksX6_sumOf_0 23 rfl rfl)
theorem dX6_sumOf_24 : decode cX6_sumOf 24 = .ok (.getfield 78, 3) := dk_180 0 78 (dk_at dksX6_sumOf_1 0 rfl rfl)
theorem dX6_sumOf_27 : decode cX6_sumOf 27 = .ok (.iconst 0, 1) := dk_3 (dk_at dksX6_sumOf_1 3 rfl rfl)
theorem dX6_sumOf_28 : decode cX6_sumOf 28 = .ok (.iload 4, 2) := dk_21 4 (dk_at dksX6_sumOf_1 4 rfl rfl)
theorem dX6_sumOf_30 : decode cX6_sumOf 30 = .ok (.ifCond .eq 10, 3) := dk_153 0 10 (dk_at dksX6_sumOf_1 6 rfl rfl)
theorem dX6_sumOf_33 : decode cX6_sumOf 33 = .ok (.aload_n 0, 1) := dk_42 (dk_at dksX6_sumOf_1 9 rfl rfl)
theorem dX6_sumOf_34 : decode cX6_sumOf 34 = .ok (.getfield 399, 3) := dk_180 1 143 (dk_at dksX6_sumOf_1 10 rfl rfl)
theorem dX6_sumOf_37 : decode cX6_sumOf 37 = .ok (.goto 4, 3) := dk_167 0 4 (dk_at dksX6_sumOf_1 13 rfl rfl)
theorem dX6_sumOf_40 : decode cX6_sumOf 40 = .ok (.lconst 0, 1) := dk_9 (dk_at dksX6_sumOf_1 16 rfl rfl)
theorem dX6_sumOf_41 : decode cX6_sumOf 41 = .ok (.lastore, 1) := dk_80 (dk_at dksX6_sumOf_1 17 rfl rfl)
theorem dX6_sumOf_42 : decode cX6_sumOf 42 = .ok (.aload_n 0, 1) := dk_42 (dk_at dksX6_sumOf_1 18 rfl rfl)
theorem dX6_sumOf_43 : decode cX6_sumOf 43 = .ok (.getfield 78, 3) := dk_180 0 78 (dk_at dksX6_sumOf_1 19 rfl rfl)
theorem dX6_sumOf_46 : decode cX6_sumOf 46 = .ok (.iconst 1, 1) := dk_4 (dk_at dksX6_sumOf_1 22 rfl rfl)
theorem dX6_sumOf_47 : decode cX6_sumOf 47 = .ok (.iload 4, 2) := dk_21 4 (dk_at dksX6_sumOf_2 0 rfl rfl)
theorem dX6_sumOf_49 : decode cX6_sumOf 49 = .ok (.ifCond .eq 10, 3) := dk_153 0 10 (dk_at dksX6_sumOf_2 2 rfl rfl)
theorem dX6_sumOf_52 : decode cX6_sumOf 52 = .ok (.aload_n 0, 1) := dk_42 (dk_at dksX6_sumOf_2 5 rfl rfl)
theorem dX6_sumOf_53 : decode cX6_sumOf 53 = .ok (.getfield 396, 3) := dk_180 1 140 (dk_at dksX6_sumOf_2 6 rfl rfl)
theorem dX6_sumOf_56 : decode cX6_sumOf 56 = .ok (.goto 4, 3) := dk_167 0 4 (dk_at dksX6_sumOf_2 9 rfl rfl)
theorem dX6_sumOf_59 : decode cX6_sumOf 59 = .ok (.lconst 0, 1) := dk_9 (dk_at dksX6_sumOf_2 12 rfl rfl)
theorem dX6_sumOf_60 : decode cX6_sumOf 60 = .ok (.lastore, 1) := dk_80 (dk_at dksX6_sumOf_2 13 rfl rfl)
theorem dX6_sumOf_61 : decode cX6_sumOf 61 = .ok (.iconst 0, 1) := dk_3 (dk_at dksX6_sumOf_2 14 rfl rfl)
theorem dX6_sumOf_62 : decode cX6_sumOf 62 = .ok (.istore 5, 2) := dk_54 5 (dk_at dksX6_sumOf_2 15 rfl rfl)
theorem dX6_sumOf_64 : decode cX6_sumOf 64 = .ok (.iload 5, 2) := dk_21 5 (dk_at dksX6_sumOf_2 17 rfl rfl)
theorem dX6_sumOf_66 : decode cX6_sumOf 66 = .ok (.iconst 3, 1) := dk_6 (dk_at dksX6_sumOf_2 19 rfl rfl)
theorem dX6_sumOf_67 : decode cX6_sumOf 67 = .ok (.if_icmp .ge 26, 3) := dk_162 0 26 (dk_at dksX6_sumOf_2 20 rfl rfl)
theorem dX6_sumOf_70 : decode cX6_sumOf 70 = .ok (.aload_n 0, 1) := dk_42 (dk_at dksX6_sumOf_2 23 rfl rfl)
theorem dX6_sumOf_71 : decode cX6_sumOf 71 = .ok (.getfield 78, 3) := dk_180 0 78 (dk_at dksX6_sumOf_3 0 rfl rfl)
theorem dX6_sumOf_74 : decode cX6_sumOf 74 = .ok (.iconst 2, 1) := dk_5 (dk_at dksX6_sumOf_3 3 rfl rfl)
theorem dX6_sumOf_75 : decode cX6_sumOf 75 = .ok (.iload 5, 2) := dk_21 5 (dk_at dksX6_sumOf_3 4 rfl rfl)
theorem dX6_sumOf_77 : decode cX6_sumOf 77 = .ok (.iadd, 1) := dk_96 (dk_at dksX6_sumOf_3 6 rfl rfl)
theorem dX6_sumOf_78 : decode cX6_sumOf 78 = .ok (.aload_n 0, 1) := dk_42 (dk_at dksX6_sumOf_3 7 rfl rfl)
theorem dX6_sumOf_79 : decode cX6_sumOf 79 = .ok (.lload_n 2, 1) := dk_32 (dk_at dksX6_sumOf_3 8 rfl rfl)
theorem dX6_sumOf_80 : decode cX6_sumOf 80 = .ok (.iload 5, 2) := dk_21 5 (dk_at dksX6_sumOf_3 9 rfl rfl)
theorem dX6_sumOf_82 : decode cX6_sumOf 82 = .ok (.invokevirtual 424, 3) := dk_182 1 168 (dk_at dksX6_sumOf_3 11 rfl rfl)
theorem dX6_sumOf_85 : decode cX6_sumOf 85 = .ok (.i2l, 1) := dk_133 (dk_at dksX6_sumOf_3 14 rfl rfl)
theorem dX6_sumOf_86 : decode cX6_sumOf 86 = .ok (.lastore, 1) := dk_80 (dk_at dksX6_sumOf_3 15 rfl rfl)
theorem dX6_sumOf_87 : decode cX6_sumOf 87 = .ok (.iinc 5 1, 3) := dk_132 5 1 (dk_at dksX6_sumOf_3 16 rfl rfl)
theorem dX6_sumOf_90 : decode cX6_sumOf 90 = .ok (.goto (-26), 3) := dk_167 255 230 (dk_at dksX6_sumOf_3 19 rfl rfl)
theorem dX6_sumOf_93 : decode cX6_sumOf 93 = .ok (.aload_n 0, 1) := dk_42 (dk_at dksX6_sumOf_3 22 rfl rfl)
theorem dX6_sumOf_94 : decode cX6_sumOf 94 = .ok (.getfield 78, 3) := dk_180 0 78 (dk_at dksX6_sumOf_4 0 rfl rfl)
theorem dX6_sumOf_97 : decode cX6_sumOf 97 = .ok (.iconst 5, 1) := dk_8 (dk_at dksX6_sumOf_4 3 rfl rfl)
theorem dX6_sumOf_98 : decode cX6_sumOf 98 = .ok (.iload 4, 2) := dk_21 4 (dk_at dksX6_sumOf_4 4 rfl rfl)
theorem dX6_sumOf_100 : decode cX6_sumOf 100 = .ok (.ifCond .eq 15, 3) := dk_153 0 15 (dk_at dksX6_sumOf_4 6 rfl rfl)
theorem dX6_sumOf_103 : decode cX6_sumOf 103 = .ok (.aload_n 0, 1) := dk_42 (dk_at dksX6_sumOf_4 9 rfl rfl)
theorem dX6_sumOf_104 : decode cX6_sumOf 104 = .ok (.iconst 0, 1) := dk_3 (dk_at dksX6_sumOf_4 10 rfl rfl)
theorem dX6_sumOf_105 : decode cX6_sumOf 105 = .ok (.aload_n 0, 1) := dk_42 (dk_at dksX6_sumOf_4 11 rfl rfl)
theorem dX6_sumOf_106 : decode cX6_sumOf 106 = .ok (.getfield 396, 3) := dk_180 1 140 (dk_at dksX6_sumOf_4 12 rfl rfl)
theorem dX6_sumOf_109 : decode cX6_sumOf 109 = .ok (.invokevirtual 375, 3) := dk_182 1 119 (dk_at dksX6_sumOf_4 15 rfl rfl)
theorem dX6_sumOf_112 : decode cX6_sumOf 112 = .ok (.goto 4, 3) := dk_167 0 4 (dk_at dksX6_sumOf_4 18 rfl rfl)
theorem dX6_sumOf_115 : decode cX6_sumOf 115 = .ok (.lconst 0, 1) := dk_9 (dk_at dksX6_sumOf_4 21 rfl rfl)
theorem dX6_sumOf_116 : decode cX6_sumOf 116 = .ok (.lastore, 1) := dk_80 (dk_at dksX6_sumOf_4 22 rfl rfl)
theorem dX6_sumOf_117 : decode cX6_sumOf 117 = .ok (.aload_n 0, 1) := dk_42 (dk_at dksX6_sumOf_4 23 rfl rfl)
theorem dX6_sumOf_118 : decode cX6_sumOf 118 = .ok (.iconst 0, 1) := dk_3 (dk_at dksX6_sumOf_5 0 rfl rfl)
theorem dX6_sumOf_119 : decode cX6_sumOf 119 = .ok (.putfield 428, 3) := dk_181 1 172 (dk_at dksX6_sumOf_5 1 rfl rfl)
theorem dX6_sumOf_122 : decode cX6_sumOf 122 = .ok (.aload_n 0, 1) := dk_42 (dk_at dksX6_sumOf_5 4 rfl rfl)
theorem dX6_sumOf_123 : decode cX6_sumOf 123 = .ok (.getfield 32, 3) := dk_180 0 32 (dk_at dksX6_sumOf_5 5 rfl rfl)
theorem dX6_sumOf_126 : decode cX6_sumOf 126 = .ok (.iload_n 1, 1) := dk_27 (dk_at dksX6_sumOf_5 8 rfl rfl)
theorem dX6_sumOf_127 : decode cX6_sumOf 127 = .ok (.iaload, 1) := dk_46 (dk_at dksX6_sumOf_5 9 rfl rfl)
theorem dX6_sumOf_128 : decode cX6_sumOf 128 = .ok (.istore 5, 2) := dk_54 5 (dk_at dksX6_sumOf_5 10 rfl rfl)
theorem dX6_sumOf_130 : decode cX6_sumOf 130 = .ok (.iload 5, 2) := dk_21 5 (dk_at dksX6_sumOf_5 12 rfl rfl)
theorem dX6_sumOf_132 : decode cX6_sumOf 132 = .ok (.aload_n 0, 1) := dk_42 (dk_at dksX6_sumOf_5 14 rfl rfl)
theorem dX6_sumOf_133 : decode cX6_sumOf 133 = .ok (.getfield 35, 3) := dk_180 0 35 (dk_at dksX6_sumOf_5 15 rfl rfl)
theorem dX6_sumOf_136 : decode cX6_sumOf 136 = .ok (.iload_n 1, 1) := dk_27 (dk_at dksX6_sumOf_5 18 rfl rfl)
theorem dX6_sumOf_137 : decode cX6_sumOf 137 = .ok (.iaload, 1) := dk_46 (dk_at dksX6_sumOf_5 19 rfl rfl)
theorem dX6_sumOf_138 : decode cX6_sumOf 138 = .ok (.if_icmp .ge 22, 3) := dk_162 0 22 (dk_at dksX6_sumOf_5 20 rfl rfl)
theorem dX6_sumOf_141 : decode cX6_sumOf 141 = .ok (.aload_n 0, 1) := dk_42 (dk_at dksX6_sumOf_5 23 rfl rfl)
theorem dX6_sumOf_142 : decode cX6_sumOf 142 = .ok (.getfield 81, 3) := dk_180 0 81 (dk_at dksX6_sumOf_6 0 rfl rfl)
theorem dX6_sumOf_145 : decode cX6_sumOf 145 = .ok (.iload 5, 2) := dk_21 5 (dk_at dksX6_sumOf_6 3 rfl rfl)
theorem dX6_sumOf_147 : decode cX6_sumOf 147 = .ok (.aload_n 0, 1) := dk_42 (dk_at dksX6_sumOf_6 5 rfl rfl)
theorem dX6_sumOf_148 : decode cX6_sumOf 148 = .ok (.iload 5, 2) := dk_21 5 (dk_at dksX6_sumOf_6 6 rfl rfl)
theorem dX6_sumOf_150 : decode cX6_sumOf 150 = .ok (.invokevirtual 445, 3) := dk_182 1 189 (dk_at dksX6_sumOf_6 8 rfl rfl)
theorem dX6_sumOf_153 : decode cX6_sumOf 153 = .ok (.lastore, 1) := dk_80 (dk_at dksX6_sumOf_6 11 rfl rfl)
theorem dX6_sumOf_154 : decode cX6_sumOf 154 = .ok (.iinc 5 1, 3) := dk_132 5 1 (dk_at dksX6_sumOf_6 12 rfl rfl)
theorem dX6_sumOf_157 : decode cX6_sumOf 157 = .ok (.goto (-27), 3) := dk_167 255 229 (dk_at dksX6_sumOf_6 15 rfl rfl)
theorem dX6_sumOf_160 : decode cX6_sumOf 160 = .ok (.aload_n 0, 1) := dk_42 (dk_at dksX6_sumOf_6 18 rfl rfl)
theorem dX6_sumOf_161 : decode cX6_sumOf 161 = .ok (.getfield 428, 3) := dk_180 1 172 (dk_at dksX6_sumOf_6 19 rfl rfl)
theorem dX6_sumOf_164 : decode cX6_sumOf 164 = .ok (.ifCond .eq 7, 3) := dk_153 0 7 (dk_at dksX6_sumOf_7 0 rfl rfl)
theorem dX6_sumOf_167 : decode cX6_sumOf 167 = .ok (.lconst 0, 1) := dk_9 (dk_at dksX6_sumOf_7 3 rfl rfl)
theorem dX6_sumOf_168 : decode cX6_sumOf 168 = .ok (.goto 16, 3) := dk_167 0 16 (dk_at dksX6_sumOf_7 4 rfl rfl)
theorem dX6_sumOf_171 : decode cX6_sumOf 171 = .ok (.aload_n 0, 1) := dk_42 (dk_at dksX6_sumOf_7 7 rfl rfl)
theorem dX6_sumOf_172 : decode cX6_sumOf 172 = .ok (.getfield 81, 3) := dk_180 0 81 (dk_at dksX6_sumOf_7 8 rfl rfl)
theorem dX6_sumOf_175 : decode cX6_sumOf 175 = .ok (.aload_n 0, 1) := dk_42 (dk_at dksX6_sumOf_7 11 rfl rfl)
theorem dX6_sumOf_176 : decode cX6_sumOf 176 = .ok (.getfield 35, 3) := dk_180 0 35 (dk_at dksX6_sumOf_7 12 rfl rfl)
theorem dX6_sumOf_179 : decode cX6_sumOf 179 = .ok (.iload_n 1, 1) := dk_27 (dk_at dksX6_sumOf_7 15 rfl rfl)
theorem dX6_sumOf_180 : decode cX6_sumOf 180 = .ok (.iaload, 1) := dk_46 (dk_at dksX6_sumOf_7 16 rfl rfl)
theorem dX6_sumOf_181 : decode cX6_sumOf 181 = .ok (.iconst 1, 1) := dk_4 (dk_at dksX6_sumOf_7 17 rfl rfl)
theorem dX6_sumOf_182 : decode cX6_sumOf 182 = .ok (.isub, 1) := dk_100 (dk_at dksX6_sumOf_7 18 rfl rfl)
theorem dX6_sumOf_183 : decode cX6_sumOf 183 = .ok (.laload, 1) := dk_47 (dk_at dksX6_sumOf_7 19 rfl rfl)
theorem dX6_sumOf_184 : decode cX6_sumOf 184 = .ok (.lreturn, 1) := dk_173 (dk_at dksX6_sumOf_7 20 rfl rfl)
abbrev cX6_valueOf : ByteArray := prog_20_method_70_code
def yX6_valueOf : MethodName := ⟨RX6, "valueOf", "(I)J"⟩
def dkwX6_valueOf_11 : List UInt8 := [167, 0, 4, 9, 173]
abbrev dktX6_valueOf_11 : List UInt8 := dkwX6_valueOf_11 ++ []
def dkwX6_valueOf_10 : List UInt8 := [167, 0, 7, 32, 22, 4, 113, 173, 42, 180, 0, 63, 27, 46, 32, 22, 4, 184, 1, 185, 153, 0, 7, 10]
abbrev dktX6_valueOf_10 : List UInt8 := dkwX6_valueOf_10 ++ dktX6_valueOf_11
def dkwX6_valueOf_9 : List UInt8 := [153, 0, 7, 9, 167, 0, 25, 42, 180, 0, 63, 27, 46, 16, 14, 160, 0, 10, 32, 22, 4, 109]
abbrev dktX6_valueOf_9 : List UInt8 := dkwX6_valueOf_9 ++ dktX6_valueOf_10
def dkwX6_valueOf_8 : List UInt8 := [154, 0, 10, 22, 4, 9, 148, 154, 0, 7, 4, 167, 0, 4, 3, 181, 1, 172, 42, 180, 1, 172]
abbrev dktX6_valueOf_8 : List UInt8 := dkwX6_valueOf_8 ++ dktX6_valueOf_9
def dkwX6_valueOf_7 : List UInt8 := [173, 42, 32, 22, 4, 101, 182, 1, 177, 173, 42, 32, 22, 4, 182, 1, 181, 173, 42, 42, 180, 1, 172]
abbrev dktX6_valueOf_7 : List UInt8 := dkwX6_valueOf_7 ++ dktX6_valueOf_8
def dkwX6_valueOf_6 : List UInt8 := [154, 0, 10, 22, 4, 9, 148, 153, 0, 7, 10, 167, 0, 4, 9, 173, 42, 32, 22, 4, 97, 182, 1, 177]
abbrev dktX6_valueOf_6 : List UInt8 := dkwX6_valueOf_6 ++ dktX6_valueOf_7
def dkwX6_valueOf_5 : List UInt8 := [32, 9, 148, 153, 0, 14, 22, 4, 9, 148, 153, 0, 7, 10, 167, 0, 4, 9, 173, 32, 9, 148]
abbrev dktX6_valueOf_5 : List UInt8 := dkwX6_valueOf_5 ++ dktX6_valueOf_6
def dkwX6_valueOf_4 : List UInt8 := [170, 0, 0, 0, 0, 0, 0, 189, 0, 0, 0, 3, 0, 0, 0, 15, 0, 0, 0, 68, 0, 0, 0, 87, 0, 0, 0, 189, 0, 0, 0, 189, 0, 0, 0, 189, 0, 0, 0, 189, 0, 0, 0, 189, 0, 0, 0, 189, 0, 0, 0, 106, 0, 0, 0, 115, 0, 0, 0, 124, 0, 0, 0, 132, 0, 0, 0, 132]
abbrev dktX6_valueOf_4 : List UInt8 := dkwX6_valueOf_4 ++ dktX6_valueOf_5
def dkwX6_valueOf_3 : List UInt8 := [167, 0, 4, 9, 173, 42, 180, 0, 81, 42, 180, 0, 69, 27, 46, 47, 55, 4, 42, 180, 0, 63, 27, 46]
abbrev dktX6_valueOf_3 : List UInt8 := dkwX6_valueOf_3 ++ dktX6_valueOf_4
def dkwX6_valueOf_2 : List UInt8 := [180, 0, 66, 27, 46, 47, 65, 42, 180, 0, 63, 27, 46, 5, 160, 0, 15, 32, 9, 148, 154, 0, 7, 10]
abbrev dktX6_valueOf_2 : List UInt8 := dkwX6_valueOf_2 ++ dktX6_valueOf_3
def dkwX6_valueOf_1 : List UInt8 := [160, 0, 19, 42, 42, 180, 0, 78, 42, 180, 0, 66, 27, 46, 47, 182, 1, 177, 173, 42, 180, 0, 81, 42]
abbrev dktX6_valueOf_1 : List UInt8 := dkwX6_valueOf_1 ++ dktX6_valueOf_2
def dkwX6_valueOf_0 : List UInt8 := [42, 180, 0, 63, 27, 46, 154, 0, 11, 42, 180, 0, 66, 27, 46, 133, 173, 42, 180, 0, 63, 27, 46, 4]
abbrev dktX6_valueOf_0 : List UInt8 := dkwX6_valueOf_0 ++ dktX6_valueOf_1
theorem dksX6_valueOf_0 : cX6_valueOf.data.toList.drop 0 = dktX6_valueOf_0 := by decide +kernel
theorem dksX6_valueOf_1 : cX6_valueOf.data.toList.drop 24 = dktX6_valueOf_1 := dk_seg dksX6_valueOf_0 24 rfl rfl
theorem dksX6_valueOf_2 : cX6_valueOf.data.toList.drop 48 = dktX6_valueOf_2 := dk_seg dksX6_valueOf_1 24 rfl rfl
theorem dksX6_valueOf_3 : cX6_valueOf.data.toList.drop 72 = dktX6_valueOf_3 := dk_seg dksX6_valueOf_2 24 rfl rfl
theorem dksX6_valueOf_4 : cX6_valueOf.data.toList.drop 96 = dktX6_valueOf_4 := dk_seg dksX6_valueOf_3 24 rfl rfl
theorem dksX6_valueOf_5 : cX6_valueOf.data.toList.drop 164 = dktX6_valueOf_5 := dk_seg dksX6_valueOf_4 68 rfl rfl
theorem dksX6_valueOf_6 : cX6_valueOf.data.toList.drop 186 = dktX6_valueOf_6 := dk_seg dksX6_valueOf_5 22 rfl rfl
theorem dksX6_valueOf_7 : cX6_valueOf.data.toList.drop 210 = dktX6_valueOf_7 := dk_seg dksX6_valueOf_6 24 rfl rfl
theorem dksX6_valueOf_8 : cX6_valueOf.data.toList.drop 233 = dktX6_valueOf_8 := dk_seg dksX6_valueOf_7 23 rfl rfl
theorem dksX6_valueOf_9 : cX6_valueOf.data.toList.drop 255 = dktX6_valueOf_9 := dk_seg dksX6_valueOf_8 22 rfl rfl
theorem dksX6_valueOf_10 : cX6_valueOf.data.toList.drop 277 = dktX6_valueOf_10 := dk_seg dksX6_valueOf_9 22 rfl rfl
theorem dksX6_valueOf_11 : cX6_valueOf.data.toList.drop 301 = dktX6_valueOf_11 := dk_seg dksX6_valueOf_10 24 rfl rfl
theorem dX6_valueOf_0 : decode cX6_valueOf 0 = .ok (.aload_n 0, 1) := dk_42 (dk_at dksX6_valueOf_0 0 rfl rfl)
theorem dX6_valueOf_1 : decode cX6_valueOf 1 = .ok (.getfield 63, 3) := dk_180 0 63 (dk_at dksX6_valueOf_0 1 rfl rfl)
theorem dX6_valueOf_4 : decode cX6_valueOf 4 = .ok (.iload_n 1, 1) := dk_27 (dk_at dksX6_valueOf_0 4 rfl rfl)
theorem dX6_valueOf_5 : decode cX6_valueOf 5 = .ok (.iaload, 1) := dk_46 (dk_at dksX6_valueOf_0 5 rfl rfl)
theorem dX6_valueOf_6 : decode cX6_valueOf 6 = .ok (.ifCond .ne 11, 3) := dk_154 0 11 (dk_at dksX6_valueOf_0 6 rfl rfl)
theorem dX6_valueOf_9 : decode cX6_valueOf 9 = .ok (.aload_n 0, 1) := dk_42 (dk_at dksX6_valueOf_0 9 rfl rfl)
theorem dX6_valueOf_10 : decode cX6_valueOf 10 = .ok (.getfield 66, 3) := dk_180 0 66 (dk_at dksX6_valueOf_0 10 rfl rfl)
theorem dX6_valueOf_13 : decode cX6_valueOf 13 = .ok (.iload_n 1, 1) := dk_27 (dk_at dksX6_valueOf_0 13 rfl rfl)
theorem dX6_valueOf_14 : decode cX6_valueOf 14 = .ok (.iaload, 1) := dk_46 (dk_at dksX6_valueOf_0 14 rfl rfl)
theorem dX6_valueOf_15 : decode cX6_valueOf 15 = .ok (.i2l, 1) := dk_133 (dk_at dksX6_valueOf_0 15 rfl rfl)
theorem dX6_valueOf_16 : decode cX6_valueOf 16 = .ok (.lreturn, 1) := dk_173 (dk_at dksX6_valueOf_0 16 rfl rfl)
theorem dX6_valueOf_17 : decode cX6_valueOf 17 = .ok (.aload_n 0, 1) := dk_42 (dk_at dksX6_valueOf_0 17 rfl rfl)
theorem dX6_valueOf_18 : decode cX6_valueOf 18 = .ok (.getfield 63, 3) := dk_180 0 63 (dk_at dksX6_valueOf_0 18 rfl rfl)
theorem dX6_valueOf_21 : decode cX6_valueOf 21 = .ok (.iload_n 1, 1) := dk_27 (dk_at dksX6_valueOf_0 21 rfl rfl)
theorem dX6_valueOf_22 : decode cX6_valueOf 22 = .ok (.iaload, 1) := dk_46 (dk_at dksX6_valueOf_0 22 rfl rfl)
theorem dX6_valueOf_23 : decode cX6_valueOf 23 = .ok (.iconst 1, 1) := dk_4 (dk_at dksX6_valueOf_0 23 rfl rfl)
theorem dX6_valueOf_24 : decode cX6_valueOf 24 = .ok (.if_icmp .ne 19, 3) := dk_160 0 19 (dk_at dksX6_valueOf_1 0 rfl rfl)
theorem dX6_valueOf_27 : decode cX6_valueOf 27 = .ok (.aload_n 0, 1) := dk_42 (dk_at dksX6_valueOf_1 3 rfl rfl)
theorem dX6_valueOf_28 : decode cX6_valueOf 28 = .ok (.aload_n 0, 1) := dk_42 (dk_at dksX6_valueOf_1 4 rfl rfl)
theorem dX6_valueOf_29 : decode cX6_valueOf 29 = .ok (.getfield 78, 3) := dk_180 0 78 (dk_at dksX6_valueOf_1 5 rfl rfl)
theorem dX6_valueOf_32 : decode cX6_valueOf 32 = .ok (.aload_n 0, 1) := dk_42 (dk_at dksX6_valueOf_1 8 rfl rfl)
theorem dX6_valueOf_33 : decode cX6_valueOf 33 = .ok (.getfield 66, 3) := dk_180 0 66 (dk_at dksX6_valueOf_1 9 rfl rfl)
theorem dX6_valueOf_36 : decode cX6_valueOf 36 = .ok (.iload_n 1, 1) := dk_27 (dk_at dksX6_valueOf_1 12 rfl rfl)
theorem dX6_valueOf_37 : decode cX6_valueOf 37 = .ok (.iaload, 1) := dk_46 (dk_at dksX6_valueOf_1 13 rfl rfl)
theorem dX6_valueOf_38 : decode cX6_valueOf 38 = .ok (.laload, 1) := dk_47 (dk_at dksX6_valueOf_1 14 rfl rfl)
theorem dX6_valueOf_39 : decode cX6_valueOf 39 = .ok (.invokevirtual 433, 3) := dk_182 1 177 (dk_at dksX6_valueOf_1 15 rfl rfl)
theorem dX6_valueOf_42 : decode cX6_valueOf 42 = .ok (.lreturn, 1) := dk_173 (dk_at dksX6_valueOf_1 18 rfl rfl)
theorem dX6_valueOf_43 : decode cX6_valueOf 43 = .ok (.aload_n 0, 1) := dk_42 (dk_at dksX6_valueOf_1 19 rfl rfl)
theorem dX6_valueOf_44 : decode cX6_valueOf 44 = .ok (.getfield 81, 3) := dk_180 0 81 (dk_at dksX6_valueOf_1 20 rfl rfl)
theorem dX6_valueOf_47 : decode cX6_valueOf 47 = .ok (.aload_n 0, 1) := dk_42 (dk_at dksX6_valueOf_1 23 rfl rfl)
theorem dX6_valueOf_48 : decode cX6_valueOf 48 = .ok (.getfield 66, 3) := dk_180 0 66 (dk_at dksX6_valueOf_2 0 rfl rfl)
theorem dX6_valueOf_51 : decode cX6_valueOf 51 = .ok (.iload_n 1, 1) := dk_27 (dk_at dksX6_valueOf_2 3 rfl rfl)
theorem dX6_valueOf_52 : decode cX6_valueOf 52 = .ok (.iaload, 1) := dk_46 (dk_at dksX6_valueOf_2 4 rfl rfl)
theorem dX6_valueOf_53 : decode cX6_valueOf 53 = .ok (.laload, 1) := dk_47 (dk_at dksX6_valueOf_2 5 rfl rfl)
theorem dX6_valueOf_54 : decode cX6_valueOf 54 = .ok (.lstore_n 2, 1) := dk_65 (dk_at dksX6_valueOf_2 6 rfl rfl)
theorem dX6_valueOf_55 : decode cX6_valueOf 55 = .ok (.aload_n 0, 1) := dk_42 (dk_at dksX6_valueOf_2 7 rfl rfl)
theorem dX6_valueOf_56 : decode cX6_valueOf 56 = .ok (.getfield 63, 3) := dk_180 0 63 (dk_at dksX6_valueOf_2 8 rfl rfl)
theorem dX6_valueOf_59 : decode cX6_valueOf 59 = .ok (.iload_n 1, 1) := dk_27 (dk_at dksX6_valueOf_2 11 rfl rfl)
theorem dX6_valueOf_60 : decode cX6_valueOf 60 = .ok (.iaload, 1) := dk_46 (dk_at dksX6_valueOf_2 12 rfl rfl)
theorem dX6_valueOf_61 : decode cX6_valueOf 61 = .ok (.iconst 2, 1) := dk_5 (dk_at dksX6_valueOf_2 13 rfl rfl)
theorem dX6_valueOf_62 : decode cX6_valueOf 62 = .ok (.if_icmp .ne 15, 3) := dk_160 0 15 (dk_at dksX6_valueOf_2 14 rfl rfl)
theorem dX6_valueOf_65 : decode cX6_valueOf 65 = .ok (.lload_n 2, 1) := dk_32 (dk_at dksX6_valueOf_2 17 rfl rfl)
theorem dX6_valueOf_66 : decode cX6_valueOf 66 = .ok (.lconst 0, 1) := dk_9 (dk_at dksX6_valueOf_2 18 rfl rfl)
theorem dX6_valueOf_67 : decode cX6_valueOf 67 = .ok (.lcmp, 1) := dk_148 (dk_at dksX6_valueOf_2 19 rfl rfl)
theorem dX6_valueOf_68 : decode cX6_valueOf 68 = .ok (.ifCond .ne 7, 3) := dk_154 0 7 (dk_at dksX6_valueOf_2 20 rfl rfl)
theorem dX6_valueOf_71 : decode cX6_valueOf 71 = .ok (.lconst 1, 1) := dk_10 (dk_at dksX6_valueOf_2 23 rfl rfl)
theorem dX6_valueOf_72 : decode cX6_valueOf 72 = .ok (.goto 4, 3) := dk_167 0 4 (dk_at dksX6_valueOf_3 0 rfl rfl)
theorem dX6_valueOf_75 : decode cX6_valueOf 75 = .ok (.lconst 0, 1) := dk_9 (dk_at dksX6_valueOf_3 3 rfl rfl)
theorem dX6_valueOf_76 : decode cX6_valueOf 76 = .ok (.lreturn, 1) := dk_173 (dk_at dksX6_valueOf_3 4 rfl rfl)
theorem dX6_valueOf_77 : decode cX6_valueOf 77 = .ok (.aload_n 0, 1) := dk_42 (dk_at dksX6_valueOf_3 5 rfl rfl)
theorem dX6_valueOf_78 : decode cX6_valueOf 78 = .ok (.getfield 81, 3) := dk_180 0 81 (dk_at dksX6_valueOf_3 6 rfl rfl)
theorem dX6_valueOf_81 : decode cX6_valueOf 81 = .ok (.aload_n 0, 1) := dk_42 (dk_at dksX6_valueOf_3 9 rfl rfl)
theorem dX6_valueOf_82 : decode cX6_valueOf 82 = .ok (.getfield 69, 3) := dk_180 0 69 (dk_at dksX6_valueOf_3 10 rfl rfl)
theorem dX6_valueOf_85 : decode cX6_valueOf 85 = .ok (.iload_n 1, 1) := dk_27 (dk_at dksX6_valueOf_3 13 rfl rfl)
theorem dX6_valueOf_86 : decode cX6_valueOf 86 = .ok (.iaload, 1) := dk_46 (dk_at dksX6_valueOf_3 14 rfl rfl)
theorem dX6_valueOf_87 : decode cX6_valueOf 87 = .ok (.laload, 1) := dk_47 (dk_at dksX6_valueOf_3 15 rfl rfl)
theorem dX6_valueOf_88 : decode cX6_valueOf 88 = .ok (.lstore 4, 2) := dk_55 4 (dk_at dksX6_valueOf_3 16 rfl rfl)
theorem dX6_valueOf_90 : decode cX6_valueOf 90 = .ok (.aload_n 0, 1) := dk_42 (dk_at dksX6_valueOf_3 18 rfl rfl)
theorem dX6_valueOf_91 : decode cX6_valueOf 91 = .ok (.getfield 63, 3) := dk_180 0 63 (dk_at dksX6_valueOf_3 19 rfl rfl)
theorem dX6_valueOf_94 : decode cX6_valueOf 94 = .ok (.iload_n 1, 1) := dk_27 (dk_at dksX6_valueOf_3 22 rfl rfl)
theorem dX6_valueOf_95 : decode cX6_valueOf 95 = .ok (.iaload, 1) := dk_46 (dk_at dksX6_valueOf_3 23 rfl rfl)
theorem dX6_valueOf_96 : decode cX6_valueOf 96 = .ok (.tableswitch 189 3 15 #[68, 87, 189, 189, 189, 189, 189, 189, 106, 115, 124, 132, 132], 68) := by decide +kernel
theorem dX6_valueOf_164 : decode cX6_valueOf 164 = .ok (.lload_n 2, 1) := dk_32 (dk_at dksX6_valueOf_5 0 rfl rfl)
theorem dX6_valueOf_165 : decode cX6_valueOf 165 = .ok (.lconst 0, 1) := dk_9 (dk_at dksX6_valueOf_5 1 rfl rfl)
theorem dX6_valueOf_166 : decode cX6_valueOf 166 = .ok (.lcmp, 1) := dk_148 (dk_at dksX6_valueOf_5 2 rfl rfl)
theorem dX6_valueOf_167 : decode cX6_valueOf 167 = .ok (.ifCond .eq 14, 3) := dk_153 0 14 (dk_at dksX6_valueOf_5 3 rfl rfl)
theorem dX6_valueOf_170 : decode cX6_valueOf 170 = .ok (.lload 4, 2) := dk_22 4 (dk_at dksX6_valueOf_5 6 rfl rfl)
theorem dX6_valueOf_172 : decode cX6_valueOf 172 = .ok (.lconst 0, 1) := dk_9 (dk_at dksX6_valueOf_5 8 rfl rfl)
theorem dX6_valueOf_173 : decode cX6_valueOf 173 = .ok (.lcmp, 1) := dk_148 (dk_at dksX6_valueOf_5 9 rfl rfl)
theorem dX6_valueOf_174 : decode cX6_valueOf 174 = .ok (.ifCond .eq 7, 3) := dk_153 0 7 (dk_at dksX6_valueOf_5 10 rfl rfl)
theorem dX6_valueOf_177 : decode cX6_valueOf 177 = .ok (.lconst 1, 1) := dk_10 (dk_at dksX6_valueOf_5 13 rfl rfl)
theorem dX6_valueOf_178 : decode cX6_valueOf 178 = .ok (.goto 4, 3) := dk_167 0 4 (dk_at dksX6_valueOf_5 14 rfl rfl)
theorem dX6_valueOf_181 : decode cX6_valueOf 181 = .ok (.lconst 0, 1) := dk_9 (dk_at dksX6_valueOf_5 17 rfl rfl)
theorem dX6_valueOf_182 : decode cX6_valueOf 182 = .ok (.lreturn, 1) := dk_173 (dk_at dksX6_valueOf_5 18 rfl rfl)
theorem dX6_valueOf_183 : decode cX6_valueOf 183 = .ok (.lload_n 2, 1) := dk_32 (dk_at dksX6_valueOf_5 19 rfl rfl)
theorem dX6_valueOf_184 : decode cX6_valueOf 184 = .ok (.lconst 0, 1) := dk_9 (dk_at dksX6_valueOf_5 20 rfl rfl)
theorem dX6_valueOf_185 : decode cX6_valueOf 185 = .ok (.lcmp, 1) := dk_148 (dk_at dksX6_valueOf_5 21 rfl rfl)
theorem dX6_valueOf_186 : decode cX6_valueOf 186 = .ok (.ifCond .ne 10, 3) := dk_154 0 10 (dk_at dksX6_valueOf_6 0 rfl rfl)
theorem dX6_valueOf_189 : decode cX6_valueOf 189 = .ok (.lload 4, 2) := dk_22 4 (dk_at dksX6_valueOf_6 3 rfl rfl)
theorem dX6_valueOf_191 : decode cX6_valueOf 191 = .ok (.lconst 0, 1) := dk_9 (dk_at dksX6_valueOf_6 5 rfl rfl)
theorem dX6_valueOf_192 : decode cX6_valueOf 192 = .ok (.lcmp, 1) := dk_148 (dk_at dksX6_valueOf_6 6 rfl rfl)
theorem dX6_valueOf_193 : decode cX6_valueOf 193 = .ok (.ifCond .eq 7, 3) := dk_153 0 7 (dk_at dksX6_valueOf_6 7 rfl rfl)
theorem dX6_valueOf_196 : decode cX6_valueOf 196 = .ok (.lconst 1, 1) := dk_10 (dk_at dksX6_valueOf_6 10 rfl rfl)
theorem dX6_valueOf_197 : decode cX6_valueOf 197 = .ok (.goto 4, 3) := dk_167 0 4 (dk_at dksX6_valueOf_6 11 rfl rfl)
theorem dX6_valueOf_200 : decode cX6_valueOf 200 = .ok (.lconst 0, 1) := dk_9 (dk_at dksX6_valueOf_6 14 rfl rfl)
theorem dX6_valueOf_201 : decode cX6_valueOf 201 = .ok (.lreturn, 1) := dk_173 (dk_at dksX6_valueOf_6 15 rfl rfl)
theorem dX6_valueOf_202 : decode cX6_valueOf 202 = .ok (.aload_n 0, 1) := dk_42 (dk_at dksX6_valueOf_6 16 rfl rfl)
theorem dX6_valueOf_203 : decode cX6_valueOf 203 = .ok (.lload_n 2, 1) := dk_32 (dk_at dksX6_valueOf_6 17 rfl rfl)
theorem dX6_valueOf_204 : decode cX6_valueOf 204 = .ok (.lload 4, 2) := dk_22 4 (dk_at dksX6_valueOf_6 18 rfl rfl)
theorem dX6_valueOf_206 : decode cX6_valueOf 206 = .ok (.ladd, 1) := dk_97 (dk_at dksX6_valueOf_6 20 rfl rfl)
theorem dX6_valueOf_207 : decode cX6_valueOf 207 = .ok (.invokevirtual 433, 3) := dk_182 1 177 (dk_at dksX6_valueOf_6 21 rfl rfl)
theorem dX6_valueOf_210 : decode cX6_valueOf 210 = .ok (.lreturn, 1) := dk_173 (dk_at dksX6_valueOf_7 0 rfl rfl)
theorem dX6_valueOf_211 : decode cX6_valueOf 211 = .ok (.aload_n 0, 1) := dk_42 (dk_at dksX6_valueOf_7 1 rfl rfl)
theorem dX6_valueOf_212 : decode cX6_valueOf 212 = .ok (.lload_n 2, 1) := dk_32 (dk_at dksX6_valueOf_7 2 rfl rfl)
theorem dX6_valueOf_213 : decode cX6_valueOf 213 = .ok (.lload 4, 2) := dk_22 4 (dk_at dksX6_valueOf_7 3 rfl rfl)
theorem dX6_valueOf_215 : decode cX6_valueOf 215 = .ok (.lsub, 1) := dk_101 (dk_at dksX6_valueOf_7 5 rfl rfl)
theorem dX6_valueOf_216 : decode cX6_valueOf 216 = .ok (.invokevirtual 433, 3) := dk_182 1 177 (dk_at dksX6_valueOf_7 6 rfl rfl)
theorem dX6_valueOf_219 : decode cX6_valueOf 219 = .ok (.lreturn, 1) := dk_173 (dk_at dksX6_valueOf_7 9 rfl rfl)
theorem dX6_valueOf_220 : decode cX6_valueOf 220 = .ok (.aload_n 0, 1) := dk_42 (dk_at dksX6_valueOf_7 10 rfl rfl)
theorem dX6_valueOf_221 : decode cX6_valueOf 221 = .ok (.lload_n 2, 1) := dk_32 (dk_at dksX6_valueOf_7 11 rfl rfl)
theorem dX6_valueOf_222 : decode cX6_valueOf 222 = .ok (.lload 4, 2) := dk_22 4 (dk_at dksX6_valueOf_7 12 rfl rfl)
theorem dX6_valueOf_224 : decode cX6_valueOf 224 = .ok (.invokevirtual 437, 3) := dk_182 1 181 (dk_at dksX6_valueOf_7 14 rfl rfl)
theorem dX6_valueOf_227 : decode cX6_valueOf 227 = .ok (.lreturn, 1) := dk_173 (dk_at dksX6_valueOf_7 17 rfl rfl)
theorem dX6_valueOf_228 : decode cX6_valueOf 228 = .ok (.aload_n 0, 1) := dk_42 (dk_at dksX6_valueOf_7 18 rfl rfl)
theorem dX6_valueOf_229 : decode cX6_valueOf 229 = .ok (.aload_n 0, 1) := dk_42 (dk_at dksX6_valueOf_7 19 rfl rfl)
theorem dX6_valueOf_230 : decode cX6_valueOf 230 = .ok (.getfield 428, 3) := dk_180 1 172 (dk_at dksX6_valueOf_7 20 rfl rfl)
theorem dX6_valueOf_233 : decode cX6_valueOf 233 = .ok (.ifCond .ne 10, 3) := dk_154 0 10 (dk_at dksX6_valueOf_8 0 rfl rfl)
theorem dX6_valueOf_236 : decode cX6_valueOf 236 = .ok (.lload 4, 2) := dk_22 4 (dk_at dksX6_valueOf_8 3 rfl rfl)
theorem dX6_valueOf_238 : decode cX6_valueOf 238 = .ok (.lconst 0, 1) := dk_9 (dk_at dksX6_valueOf_8 5 rfl rfl)
theorem dX6_valueOf_239 : decode cX6_valueOf 239 = .ok (.lcmp, 1) := dk_148 (dk_at dksX6_valueOf_8 6 rfl rfl)
theorem dX6_valueOf_240 : decode cX6_valueOf 240 = .ok (.ifCond .ne 7, 3) := dk_154 0 7 (dk_at dksX6_valueOf_8 7 rfl rfl)
theorem dX6_valueOf_243 : decode cX6_valueOf 243 = .ok (.iconst 1, 1) := dk_4 (dk_at dksX6_valueOf_8 10 rfl rfl)
theorem dX6_valueOf_244 : decode cX6_valueOf 244 = .ok (.goto 4, 3) := dk_167 0 4 (dk_at dksX6_valueOf_8 11 rfl rfl)
theorem dX6_valueOf_247 : decode cX6_valueOf 247 = .ok (.iconst 0, 1) := dk_3 (dk_at dksX6_valueOf_8 14 rfl rfl)
theorem dX6_valueOf_248 : decode cX6_valueOf 248 = .ok (.putfield 428, 3) := dk_181 1 172 (dk_at dksX6_valueOf_8 15 rfl rfl)
theorem dX6_valueOf_251 : decode cX6_valueOf 251 = .ok (.aload_n 0, 1) := dk_42 (dk_at dksX6_valueOf_8 18 rfl rfl)
theorem dX6_valueOf_252 : decode cX6_valueOf 252 = .ok (.getfield 428, 3) := dk_180 1 172 (dk_at dksX6_valueOf_8 19 rfl rfl)
theorem dX6_valueOf_255 : decode cX6_valueOf 255 = .ok (.ifCond .eq 7, 3) := dk_153 0 7 (dk_at dksX6_valueOf_9 0 rfl rfl)
theorem dX6_valueOf_258 : decode cX6_valueOf 258 = .ok (.lconst 0, 1) := dk_9 (dk_at dksX6_valueOf_9 3 rfl rfl)
theorem dX6_valueOf_259 : decode cX6_valueOf 259 = .ok (.goto 25, 3) := dk_167 0 25 (dk_at dksX6_valueOf_9 4 rfl rfl)
theorem dX6_valueOf_262 : decode cX6_valueOf 262 = .ok (.aload_n 0, 1) := dk_42 (dk_at dksX6_valueOf_9 7 rfl rfl)
theorem dX6_valueOf_263 : decode cX6_valueOf 263 = .ok (.getfield 63, 3) := dk_180 0 63 (dk_at dksX6_valueOf_9 8 rfl rfl)
theorem dX6_valueOf_266 : decode cX6_valueOf 266 = .ok (.iload_n 1, 1) := dk_27 (dk_at dksX6_valueOf_9 11 rfl rfl)
theorem dX6_valueOf_267 : decode cX6_valueOf 267 = .ok (.iaload, 1) := dk_46 (dk_at dksX6_valueOf_9 12 rfl rfl)
theorem dX6_valueOf_268 : decode cX6_valueOf 268 = .ok (.bipush 14, 2) := dk_16 14 (dk_at dksX6_valueOf_9 13 rfl rfl)
theorem dX6_valueOf_270 : decode cX6_valueOf 270 = .ok (.if_icmp .ne 10, 3) := dk_160 0 10 (dk_at dksX6_valueOf_9 15 rfl rfl)
theorem dX6_valueOf_273 : decode cX6_valueOf 273 = .ok (.lload_n 2, 1) := dk_32 (dk_at dksX6_valueOf_9 18 rfl rfl)
theorem dX6_valueOf_274 : decode cX6_valueOf 274 = .ok (.lload 4, 2) := dk_22 4 (dk_at dksX6_valueOf_9 19 rfl rfl)
theorem dX6_valueOf_276 : decode cX6_valueOf 276 = .ok (.ldiv, 1) := dk_109 (dk_at dksX6_valueOf_9 21 rfl rfl)
theorem dX6_valueOf_277 : decode cX6_valueOf 277 = .ok (.goto 7, 3) := dk_167 0 7 (dk_at dksX6_valueOf_10 0 rfl rfl)
theorem dX6_valueOf_280 : decode cX6_valueOf 280 = .ok (.lload_n 2, 1) := dk_32 (dk_at dksX6_valueOf_10 3 rfl rfl)
theorem dX6_valueOf_281 : decode cX6_valueOf 281 = .ok (.lload 4, 2) := dk_22 4 (dk_at dksX6_valueOf_10 4 rfl rfl)
theorem dX6_valueOf_283 : decode cX6_valueOf 283 = .ok (.lrem, 1) := dk_113 (dk_at dksX6_valueOf_10 6 rfl rfl)
theorem dX6_valueOf_284 : decode cX6_valueOf 284 = .ok (.lreturn, 1) := dk_173 (dk_at dksX6_valueOf_10 7 rfl rfl)
theorem dX6_valueOf_285 : decode cX6_valueOf 285 = .ok (.aload_n 0, 1) := dk_42 (dk_at dksX6_valueOf_10 8 rfl rfl)
theorem dX6_valueOf_286 : decode cX6_valueOf 286 = .ok (.getfield 63, 3) := dk_180 0 63 (dk_at dksX6_valueOf_10 9 rfl rfl)
theorem dX6_valueOf_289 : decode cX6_valueOf 289 = .ok (.iload_n 1, 1) := dk_27 (dk_at dksX6_valueOf_10 12 rfl rfl)
theorem dX6_valueOf_290 : decode cX6_valueOf 290 = .ok (.iaload, 1) := dk_46 (dk_at dksX6_valueOf_10 13 rfl rfl)
theorem dX6_valueOf_291 : decode cX6_valueOf 291 = .ok (.lload_n 2, 1) := dk_32 (dk_at dksX6_valueOf_10 14 rfl rfl)
theorem dX6_valueOf_292 : decode cX6_valueOf 292 = .ok (.lload 4, 2) := dk_22 4 (dk_at dksX6_valueOf_10 15 rfl rfl)
theorem dX6_valueOf_294 : decode cX6_valueOf 294 = .ok (.invokestatic 441, 3) := dk_184 1 185 (dk_at dksX6_valueOf_10 17 rfl rfl)
theorem dX6_valueOf_297 : decode cX6_valueOf 297 = .ok (.ifCond .eq 7, 3) := dk_153 0 7 (dk_at dksX6_valueOf_10 20 rfl rfl)
theorem dX6_valueOf_300 : decode cX6_valueOf 300 = .ok (.lconst 1, 1) := dk_10 (dk_at dksX6_valueOf_10 23 rfl rfl)
theorem dX6_valueOf_301 : decode cX6_valueOf 301 = .ok (.goto 4, 3) := dk_167 0 4 (dk_at dksX6_valueOf_11 0 rfl rfl)
theorem dX6_valueOf_304 : decode cX6_valueOf 304 = .ok (.lconst 0, 1) := dk_9 (dk_at dksX6_valueOf_11 3 rfl rfl)
theorem dX6_valueOf_305 : decode cX6_valueOf 305 = .ok (.lreturn, 1) := dk_173 (dk_at dksX6_valueOf_11 4 rfl rfl)
abbrev cX6_bounded : ByteArray := prog_20_method_67_code
def yX6_bounded : MethodName := ⟨RX6, "bounded", "(J)J"⟩
def dkwX6_bounded_1 : List UInt8 := [4, 167, 0, 4, 3, 181, 1, 172, 42, 180, 1, 172, 153, 0, 7, 9, 167, 0, 4, 31, 173]
abbrev dktX6_bounded_1 : List UInt8 := dkwX6_bounded_1 ++ []
def dkwX6_bounded_0 : List UInt8 := [42, 42, 180, 1, 172, 154, 0, 19, 31, 20, 0, 125, 148, 157, 0, 11, 31, 20, 1, 175, 148, 156, 0, 7]
abbrev dktX6_bounded_0 : List UInt8 := dkwX6_bounded_0 ++ dktX6_bounded_1
theorem dksX6_bounded_0 : cX6_bounded.data.toList.drop 0 = dktX6_bounded_0 := by decide +kernel
theorem dksX6_bounded_1 : cX6_bounded.data.toList.drop 24 = dktX6_bounded_1 := dk_seg dksX6_bounded_0 24 rfl rfl
theorem dX6_bounded_0 : decode cX6_bounded 0 = .ok (.aload_n 0, 1) := dk_42 (dk_at dksX6_bounded_0 0 rfl rfl)
theorem dX6_bounded_1 : decode cX6_bounded 1 = .ok (.aload_n 0, 1) := dk_42 (dk_at dksX6_bounded_0 1 rfl rfl)
theorem dX6_bounded_2 : decode cX6_bounded 2 = .ok (.getfield 428, 3) := dk_180 1 172 (dk_at dksX6_bounded_0 2 rfl rfl)
theorem dX6_bounded_5 : decode cX6_bounded 5 = .ok (.ifCond .ne 19, 3) := dk_154 0 19 (dk_at dksX6_bounded_0 5 rfl rfl)
theorem dX6_bounded_8 : decode cX6_bounded 8 = .ok (.lload_n 1, 1) := dk_31 (dk_at dksX6_bounded_0 8 rfl rfl)
theorem dX6_bounded_9 : decode cX6_bounded 9 = .ok (.ldc2_w 125, 3) := dk_20 0 125 (dk_at dksX6_bounded_0 9 rfl rfl)
theorem dX6_bounded_12 : decode cX6_bounded 12 = .ok (.lcmp, 1) := dk_148 (dk_at dksX6_bounded_0 12 rfl rfl)
theorem dX6_bounded_13 : decode cX6_bounded 13 = .ok (.ifCond .gt 11, 3) := dk_157 0 11 (dk_at dksX6_bounded_0 13 rfl rfl)
theorem dX6_bounded_16 : decode cX6_bounded 16 = .ok (.lload_n 1, 1) := dk_31 (dk_at dksX6_bounded_0 16 rfl rfl)
theorem dX6_bounded_17 : decode cX6_bounded 17 = .ok (.ldc2_w 431, 3) := dk_20 1 175 (dk_at dksX6_bounded_0 17 rfl rfl)
theorem dX6_bounded_20 : decode cX6_bounded 20 = .ok (.lcmp, 1) := dk_148 (dk_at dksX6_bounded_0 20 rfl rfl)
theorem dX6_bounded_21 : decode cX6_bounded 21 = .ok (.ifCond .ge 7, 3) := dk_156 0 7 (dk_at dksX6_bounded_0 21 rfl rfl)
theorem dX6_bounded_24 : decode cX6_bounded 24 = .ok (.iconst 1, 1) := dk_4 (dk_at dksX6_bounded_1 0 rfl rfl)
theorem dX6_bounded_25 : decode cX6_bounded 25 = .ok (.goto 4, 3) := dk_167 0 4 (dk_at dksX6_bounded_1 1 rfl rfl)
theorem dX6_bounded_28 : decode cX6_bounded 28 = .ok (.iconst 0, 1) := dk_3 (dk_at dksX6_bounded_1 4 rfl rfl)
theorem dX6_bounded_29 : decode cX6_bounded 29 = .ok (.putfield 428, 3) := dk_181 1 172 (dk_at dksX6_bounded_1 5 rfl rfl)
theorem dX6_bounded_32 : decode cX6_bounded 32 = .ok (.aload_n 0, 1) := dk_42 (dk_at dksX6_bounded_1 8 rfl rfl)
theorem dX6_bounded_33 : decode cX6_bounded 33 = .ok (.getfield 428, 3) := dk_180 1 172 (dk_at dksX6_bounded_1 9 rfl rfl)
theorem dX6_bounded_36 : decode cX6_bounded 36 = .ok (.ifCond .eq 7, 3) := dk_153 0 7 (dk_at dksX6_bounded_1 12 rfl rfl)
theorem dX6_bounded_39 : decode cX6_bounded 39 = .ok (.lconst 0, 1) := dk_9 (dk_at dksX6_bounded_1 15 rfl rfl)
theorem dX6_bounded_40 : decode cX6_bounded 40 = .ok (.goto 4, 3) := dk_167 0 4 (dk_at dksX6_bounded_1 16 rfl rfl)
theorem dX6_bounded_43 : decode cX6_bounded 43 = .ok (.lload_n 1, 1) := dk_31 (dk_at dksX6_bounded_1 19 rfl rfl)
theorem dX6_bounded_44 : decode cX6_bounded 44 = .ok (.lreturn, 1) := dk_173 (dk_at dksX6_bounded_1 20 rfl rfl)
abbrev cX6_times : ByteArray := prog_20_method_69_code
def yX6_times : MethodName := ⟨RX6, "times", "(JJ)J"⟩
def dkwX6_times_3 : List UInt8 := [42, 180, 1, 172, 153, 0, 7, 9, 167, 0, 6, 31, 33, 105, 173]
abbrev dktX6_times_3 : List UInt8 := dkwX6_times_3 ++ []
def dkwX6_times_2 : List UInt8 := [3, 54, 5, 42, 42, 180, 1, 172, 154, 0, 8, 21, 5, 153, 0, 7, 4, 167, 0, 4, 3, 181, 1, 172]
abbrev dktX6_times_2 : List UInt8 := dkwX6_times_2 ++ dktX6_times_3
def dkwX6_times_1 : List UInt8 := [20, 0, 125, 31, 9, 148, 156, 0, 8, 31, 117, 167, 0, 4, 31, 109, 148, 158, 0, 7, 4, 167, 0, 4]
abbrev dktX6_times_1 : List UInt8 := dkwX6_times_1 ++ dktX6_times_2
def dkwX6_times_0 : List UInt8 := [31, 9, 148, 153, 0, 45, 33, 9, 148, 153, 0, 39, 33, 9, 148, 156, 0, 8, 33, 117, 167, 0, 4, 33]
abbrev dktX6_times_0 : List UInt8 := dkwX6_times_0 ++ dktX6_times_1
theorem dksX6_times_0 : cX6_times.data.toList.drop 0 = dktX6_times_0 := by decide +kernel
theorem dksX6_times_1 : cX6_times.data.toList.drop 24 = dktX6_times_1 := dk_seg dksX6_times_0 24 rfl rfl
theorem dksX6_times_2 : cX6_times.data.toList.drop 48 = dktX6_times_2 := dk_seg dksX6_times_1 24 rfl rfl
theorem dksX6_times_3 : cX6_times.data.toList.drop 72 = dktX6_times_3 := dk_seg dksX6_times_2 24 rfl rfl
theorem dX6_times_0 : decode cX6_times 0 = .ok (.lload_n 1, 1) := dk_31 (dk_at dksX6_times_0 0 rfl rfl)
theorem dX6_times_1 : decode cX6_times 1 = .ok (.lconst 0, 1) := dk_9 (dk_at dksX6_times_0 1 rfl rfl)
theorem dX6_times_2 : decode cX6_times 2 = .ok (.lcmp, 1) := dk_148 (dk_at dksX6_times_0 2 rfl rfl)
theorem dX6_times_3 : decode cX6_times 3 = .ok (.ifCond .eq 45, 3) := dk_153 0 45 (dk_at dksX6_times_0 3 rfl rfl)
theorem dX6_times_6 : decode cX6_times 6 = .ok (.lload_n 3, 1) := dk_33 (dk_at dksX6_times_0 6 rfl rfl)
theorem dX6_times_7 : decode cX6_times 7 = .ok (.lconst 0, 1) := dk_9 (dk_at dksX6_times_0 7 rfl rfl)
theorem dX6_times_8 : decode cX6_times 8 = .ok (.lcmp, 1) := dk_148 (dk_at dksX6_times_0 8 rfl rfl)
theorem dX6_times_9 : decode cX6_times 9 = .ok (.ifCond .eq 39, 3) := dk_153 0 39 (dk_at dksX6_times_0 9 rfl rfl)
theorem dX6_times_12 : decode cX6_times 12 = .ok (.lload_n 3, 1) := dk_33 (dk_at dksX6_times_0 12 rfl rfl)
theorem dX6_times_13 : decode cX6_times 13 = .ok (.lconst 0, 1) := dk_9 (dk_at dksX6_times_0 13 rfl rfl)
theorem dX6_times_14 : decode cX6_times 14 = .ok (.lcmp, 1) := dk_148 (dk_at dksX6_times_0 14 rfl rfl)
theorem dX6_times_15 : decode cX6_times 15 = .ok (.ifCond .ge 8, 3) := dk_156 0 8 (dk_at dksX6_times_0 15 rfl rfl)
theorem dX6_times_18 : decode cX6_times 18 = .ok (.lload_n 3, 1) := dk_33 (dk_at dksX6_times_0 18 rfl rfl)
theorem dX6_times_19 : decode cX6_times 19 = .ok (.lneg, 1) := dk_117 (dk_at dksX6_times_0 19 rfl rfl)
theorem dX6_times_20 : decode cX6_times 20 = .ok (.goto 4, 3) := dk_167 0 4 (dk_at dksX6_times_0 20 rfl rfl)
theorem dX6_times_23 : decode cX6_times 23 = .ok (.lload_n 3, 1) := dk_33 (dk_at dksX6_times_0 23 rfl rfl)
theorem dX6_times_24 : decode cX6_times 24 = .ok (.ldc2_w 125, 3) := dk_20 0 125 (dk_at dksX6_times_1 0 rfl rfl)
theorem dX6_times_27 : decode cX6_times 27 = .ok (.lload_n 1, 1) := dk_31 (dk_at dksX6_times_1 3 rfl rfl)
theorem dX6_times_28 : decode cX6_times 28 = .ok (.lconst 0, 1) := dk_9 (dk_at dksX6_times_1 4 rfl rfl)
theorem dX6_times_29 : decode cX6_times 29 = .ok (.lcmp, 1) := dk_148 (dk_at dksX6_times_1 5 rfl rfl)
theorem dX6_times_30 : decode cX6_times 30 = .ok (.ifCond .ge 8, 3) := dk_156 0 8 (dk_at dksX6_times_1 6 rfl rfl)
theorem dX6_times_33 : decode cX6_times 33 = .ok (.lload_n 1, 1) := dk_31 (dk_at dksX6_times_1 9 rfl rfl)
theorem dX6_times_34 : decode cX6_times 34 = .ok (.lneg, 1) := dk_117 (dk_at dksX6_times_1 10 rfl rfl)
theorem dX6_times_35 : decode cX6_times 35 = .ok (.goto 4, 3) := dk_167 0 4 (dk_at dksX6_times_1 11 rfl rfl)
theorem dX6_times_38 : decode cX6_times 38 = .ok (.lload_n 1, 1) := dk_31 (dk_at dksX6_times_1 14 rfl rfl)
theorem dX6_times_39 : decode cX6_times 39 = .ok (.ldiv, 1) := dk_109 (dk_at dksX6_times_1 15 rfl rfl)
theorem dX6_times_40 : decode cX6_times 40 = .ok (.lcmp, 1) := dk_148 (dk_at dksX6_times_1 16 rfl rfl)
theorem dX6_times_41 : decode cX6_times 41 = .ok (.ifCond .le 7, 3) := dk_158 0 7 (dk_at dksX6_times_1 17 rfl rfl)
theorem dX6_times_44 : decode cX6_times 44 = .ok (.iconst 1, 1) := dk_4 (dk_at dksX6_times_1 20 rfl rfl)
theorem dX6_times_45 : decode cX6_times 45 = .ok (.goto 4, 3) := dk_167 0 4 (dk_at dksX6_times_1 21 rfl rfl)
theorem dX6_times_48 : decode cX6_times 48 = .ok (.iconst 0, 1) := dk_3 (dk_at dksX6_times_2 0 rfl rfl)
theorem dX6_times_49 : decode cX6_times 49 = .ok (.istore 5, 2) := dk_54 5 (dk_at dksX6_times_2 1 rfl rfl)
theorem dX6_times_51 : decode cX6_times 51 = .ok (.aload_n 0, 1) := dk_42 (dk_at dksX6_times_2 3 rfl rfl)
theorem dX6_times_52 : decode cX6_times 52 = .ok (.aload_n 0, 1) := dk_42 (dk_at dksX6_times_2 4 rfl rfl)
theorem dX6_times_53 : decode cX6_times 53 = .ok (.getfield 428, 3) := dk_180 1 172 (dk_at dksX6_times_2 5 rfl rfl)
theorem dX6_times_56 : decode cX6_times 56 = .ok (.ifCond .ne 8, 3) := dk_154 0 8 (dk_at dksX6_times_2 8 rfl rfl)
theorem dX6_times_59 : decode cX6_times 59 = .ok (.iload 5, 2) := dk_21 5 (dk_at dksX6_times_2 11 rfl rfl)
theorem dX6_times_61 : decode cX6_times 61 = .ok (.ifCond .eq 7, 3) := dk_153 0 7 (dk_at dksX6_times_2 13 rfl rfl)
theorem dX6_times_64 : decode cX6_times 64 = .ok (.iconst 1, 1) := dk_4 (dk_at dksX6_times_2 16 rfl rfl)
theorem dX6_times_65 : decode cX6_times 65 = .ok (.goto 4, 3) := dk_167 0 4 (dk_at dksX6_times_2 17 rfl rfl)
theorem dX6_times_68 : decode cX6_times 68 = .ok (.iconst 0, 1) := dk_3 (dk_at dksX6_times_2 20 rfl rfl)
theorem dX6_times_69 : decode cX6_times 69 = .ok (.putfield 428, 3) := dk_181 1 172 (dk_at dksX6_times_2 21 rfl rfl)
theorem dX6_times_72 : decode cX6_times 72 = .ok (.aload_n 0, 1) := dk_42 (dk_at dksX6_times_3 0 rfl rfl)
theorem dX6_times_73 : decode cX6_times 73 = .ok (.getfield 428, 3) := dk_180 1 172 (dk_at dksX6_times_3 1 rfl rfl)
theorem dX6_times_76 : decode cX6_times 76 = .ok (.ifCond .eq 7, 3) := dk_153 0 7 (dk_at dksX6_times_3 4 rfl rfl)
theorem dX6_times_79 : decode cX6_times 79 = .ok (.lconst 0, 1) := dk_9 (dk_at dksX6_times_3 7 rfl rfl)
theorem dX6_times_80 : decode cX6_times 80 = .ok (.goto 6, 3) := dk_167 0 6 (dk_at dksX6_times_3 8 rfl rfl)
theorem dX6_times_83 : decode cX6_times 83 = .ok (.lload_n 1, 1) := dk_31 (dk_at dksX6_times_3 11 rfl rfl)
theorem dX6_times_84 : decode cX6_times 84 = .ok (.lload_n 3, 1) := dk_33 (dk_at dksX6_times_3 12 rfl rfl)
theorem dX6_times_85 : decode cX6_times 85 = .ok (.lmul, 1) := dk_105 (dk_at dksX6_times_3 13 rfl rfl)
theorem dX6_times_86 : decode cX6_times 86 = .ok (.lreturn, 1) := dk_173 (dk_at dksX6_times_3 14 rfl rfl)
abbrev cX6_compares : ByteArray := prog_20_method_68_code
def yX6_compares : MethodName := ⟨RX6, "compares", "(IJJ)Z"⟩
def dkwX6_compares_4 : List UInt8 := [31, 33, 148, 155, 0, 7, 4, 167, 0, 4, 3, 172, 31, 33, 148, 158, 0, 7, 4, 167, 0, 4, 3, 172]
abbrev dktX6_compares_4 : List UInt8 := dkwX6_compares_4 ++ []
def dkwX6_compares_3 : List UInt8 := [31, 33, 148, 154, 0, 7, 4, 167, 0, 4, 3, 172, 31, 33, 148, 153, 0, 7, 4, 167, 0, 4, 3, 172]
abbrev dktX6_compares_3 : List UInt8 := dkwX6_compares_3 ++ dktX6_compares_4
def dkwX6_compares_2 : List UInt8 := [31, 33, 148, 156, 0, 7, 4, 167, 0, 4, 3, 172, 31, 33, 148, 157, 0, 7, 4, 167, 0, 4, 3, 172]
abbrev dktX6_compares_2 : List UInt8 := dkwX6_compares_2 ++ dktX6_compares_3
def dkwX6_compares_1 : List UInt8 := [170, 0, 0, 0, 0, 0, 95, 0, 0, 0, 5, 0, 0, 0, 9, 0, 0, 0, 35, 0, 0, 0, 47, 0, 0, 0, 59, 0, 0, 0, 71, 0, 0, 0, 83]
abbrev dktX6_compares_1 : List UInt8 := dkwX6_compares_1 ++ dktX6_compares_2
def dkwX6_compares_0 : List UInt8 := [26]
abbrev dktX6_compares_0 : List UInt8 := dkwX6_compares_0 ++ dktX6_compares_1
theorem dksX6_compares_0 : cX6_compares.data.toList.drop 0 = dktX6_compares_0 := by decide +kernel
theorem dksX6_compares_1 : cX6_compares.data.toList.drop 1 = dktX6_compares_1 := dk_seg dksX6_compares_0 1 rfl rfl
theorem dksX6_compares_2 : cX6_compares.data.toList.drop 36 = dktX6_compares_2 := dk_seg dksX6_compares_1 35 rfl rfl
theorem dksX6_compares_3 : cX6_compares.data.toList.drop 60 = dktX6_compares_3 := dk_seg dksX6_compares_2 24 rfl rfl
theorem dksX6_compares_4 : cX6_compares.data.toList.drop 84 = dktX6_compares_4 := dk_seg dksX6_compares_3 24 rfl rfl
theorem dX6_compares_0 : decode cX6_compares 0 = .ok (.iload_n 0, 1) := dk_26 (dk_at dksX6_compares_0 0 rfl rfl)
theorem dX6_compares_1 : decode cX6_compares 1 = .ok (.tableswitch 95 5 9 #[35, 47, 59, 71, 83], 35) := by decide +kernel
theorem dX6_compares_36 : decode cX6_compares 36 = .ok (.lload_n 1, 1) := dk_31 (dk_at dksX6_compares_2 0 rfl rfl)
theorem dX6_compares_37 : decode cX6_compares 37 = .ok (.lload_n 3, 1) := dk_33 (dk_at dksX6_compares_2 1 rfl rfl)
theorem dX6_compares_38 : decode cX6_compares 38 = .ok (.lcmp, 1) := dk_148 (dk_at dksX6_compares_2 2 rfl rfl)
theorem dX6_compares_39 : decode cX6_compares 39 = .ok (.ifCond .ge 7, 3) := dk_156 0 7 (dk_at dksX6_compares_2 3 rfl rfl)
theorem dX6_compares_42 : decode cX6_compares 42 = .ok (.iconst 1, 1) := dk_4 (dk_at dksX6_compares_2 6 rfl rfl)
theorem dX6_compares_43 : decode cX6_compares 43 = .ok (.goto 4, 3) := dk_167 0 4 (dk_at dksX6_compares_2 7 rfl rfl)
theorem dX6_compares_46 : decode cX6_compares 46 = .ok (.iconst 0, 1) := dk_3 (dk_at dksX6_compares_2 10 rfl rfl)
theorem dX6_compares_47 : decode cX6_compares 47 = .ok (.ireturn, 1) := dk_172 (dk_at dksX6_compares_2 11 rfl rfl)
theorem dX6_compares_48 : decode cX6_compares 48 = .ok (.lload_n 1, 1) := dk_31 (dk_at dksX6_compares_2 12 rfl rfl)
theorem dX6_compares_49 : decode cX6_compares 49 = .ok (.lload_n 3, 1) := dk_33 (dk_at dksX6_compares_2 13 rfl rfl)
theorem dX6_compares_50 : decode cX6_compares 50 = .ok (.lcmp, 1) := dk_148 (dk_at dksX6_compares_2 14 rfl rfl)
theorem dX6_compares_51 : decode cX6_compares 51 = .ok (.ifCond .gt 7, 3) := dk_157 0 7 (dk_at dksX6_compares_2 15 rfl rfl)
theorem dX6_compares_54 : decode cX6_compares 54 = .ok (.iconst 1, 1) := dk_4 (dk_at dksX6_compares_2 18 rfl rfl)
theorem dX6_compares_55 : decode cX6_compares 55 = .ok (.goto 4, 3) := dk_167 0 4 (dk_at dksX6_compares_2 19 rfl rfl)
theorem dX6_compares_58 : decode cX6_compares 58 = .ok (.iconst 0, 1) := dk_3 (dk_at dksX6_compares_2 22 rfl rfl)
theorem dX6_compares_59 : decode cX6_compares 59 = .ok (.ireturn, 1) := dk_172 (dk_at dksX6_compares_2 23 rfl rfl)
theorem dX6_compares_60 : decode cX6_compares 60 = .ok (.lload_n 1, 1) := dk_31 (dk_at dksX6_compares_3 0 rfl rfl)
theorem dX6_compares_61 : decode cX6_compares 61 = .ok (.lload_n 3, 1) := dk_33 (dk_at dksX6_compares_3 1 rfl rfl)
theorem dX6_compares_62 : decode cX6_compares 62 = .ok (.lcmp, 1) := dk_148 (dk_at dksX6_compares_3 2 rfl rfl)
theorem dX6_compares_63 : decode cX6_compares 63 = .ok (.ifCond .ne 7, 3) := dk_154 0 7 (dk_at dksX6_compares_3 3 rfl rfl)
theorem dX6_compares_66 : decode cX6_compares 66 = .ok (.iconst 1, 1) := dk_4 (dk_at dksX6_compares_3 6 rfl rfl)
theorem dX6_compares_67 : decode cX6_compares 67 = .ok (.goto 4, 3) := dk_167 0 4 (dk_at dksX6_compares_3 7 rfl rfl)
theorem dX6_compares_70 : decode cX6_compares 70 = .ok (.iconst 0, 1) := dk_3 (dk_at dksX6_compares_3 10 rfl rfl)
theorem dX6_compares_71 : decode cX6_compares 71 = .ok (.ireturn, 1) := dk_172 (dk_at dksX6_compares_3 11 rfl rfl)
theorem dX6_compares_72 : decode cX6_compares 72 = .ok (.lload_n 1, 1) := dk_31 (dk_at dksX6_compares_3 12 rfl rfl)
theorem dX6_compares_73 : decode cX6_compares 73 = .ok (.lload_n 3, 1) := dk_33 (dk_at dksX6_compares_3 13 rfl rfl)
theorem dX6_compares_74 : decode cX6_compares 74 = .ok (.lcmp, 1) := dk_148 (dk_at dksX6_compares_3 14 rfl rfl)
theorem dX6_compares_75 : decode cX6_compares 75 = .ok (.ifCond .eq 7, 3) := dk_153 0 7 (dk_at dksX6_compares_3 15 rfl rfl)
theorem dX6_compares_78 : decode cX6_compares 78 = .ok (.iconst 1, 1) := dk_4 (dk_at dksX6_compares_3 18 rfl rfl)
theorem dX6_compares_79 : decode cX6_compares 79 = .ok (.goto 4, 3) := dk_167 0 4 (dk_at dksX6_compares_3 19 rfl rfl)
theorem dX6_compares_82 : decode cX6_compares 82 = .ok (.iconst 0, 1) := dk_3 (dk_at dksX6_compares_3 22 rfl rfl)
theorem dX6_compares_83 : decode cX6_compares 83 = .ok (.ireturn, 1) := dk_172 (dk_at dksX6_compares_3 23 rfl rfl)
theorem dX6_compares_84 : decode cX6_compares 84 = .ok (.lload_n 1, 1) := dk_31 (dk_at dksX6_compares_4 0 rfl rfl)
theorem dX6_compares_85 : decode cX6_compares 85 = .ok (.lload_n 3, 1) := dk_33 (dk_at dksX6_compares_4 1 rfl rfl)
theorem dX6_compares_86 : decode cX6_compares 86 = .ok (.lcmp, 1) := dk_148 (dk_at dksX6_compares_4 2 rfl rfl)
theorem dX6_compares_87 : decode cX6_compares 87 = .ok (.ifCond .lt 7, 3) := dk_155 0 7 (dk_at dksX6_compares_4 3 rfl rfl)
theorem dX6_compares_90 : decode cX6_compares 90 = .ok (.iconst 1, 1) := dk_4 (dk_at dksX6_compares_4 6 rfl rfl)
theorem dX6_compares_91 : decode cX6_compares 91 = .ok (.goto 4, 3) := dk_167 0 4 (dk_at dksX6_compares_4 7 rfl rfl)
theorem dX6_compares_94 : decode cX6_compares 94 = .ok (.iconst 0, 1) := dk_3 (dk_at dksX6_compares_4 10 rfl rfl)
theorem dX6_compares_95 : decode cX6_compares 95 = .ok (.ireturn, 1) := dk_172 (dk_at dksX6_compares_4 11 rfl rfl)
theorem dX6_compares_96 : decode cX6_compares 96 = .ok (.lload_n 1, 1) := dk_31 (dk_at dksX6_compares_4 12 rfl rfl)
theorem dX6_compares_97 : decode cX6_compares 97 = .ok (.lload_n 3, 1) := dk_33 (dk_at dksX6_compares_4 13 rfl rfl)
theorem dX6_compares_98 : decode cX6_compares 98 = .ok (.lcmp, 1) := dk_148 (dk_at dksX6_compares_4 14 rfl rfl)
theorem dX6_compares_99 : decode cX6_compares 99 = .ok (.ifCond .le 7, 3) := dk_158 0 7 (dk_at dksX6_compares_4 15 rfl rfl)
theorem dX6_compares_102 : decode cX6_compares 102 = .ok (.iconst 1, 1) := dk_4 (dk_at dksX6_compares_4 18 rfl rfl)
theorem dX6_compares_103 : decode cX6_compares 103 = .ok (.goto 4, 3) := dk_167 0 4 (dk_at dksX6_compares_4 19 rfl rfl)
theorem dX6_compares_106 : decode cX6_compares 106 = .ok (.iconst 0, 1) := dk_3 (dk_at dksX6_compares_4 22 rfl rfl)
theorem dX6_compares_107 : decode cX6_compares 107 = .ok (.ireturn, 1) := dk_172 (dk_at dksX6_compares_4 23 rfl rfl)
abbrev cX6_festive : ByteArray := prog_20_method_75_code
def yX6_festive : MethodName := ⟨RX6, "festive", "(IJ)J"⟩
def dkwX6_festive_1 : List UInt8 := [182, 1, 202, 167, 0, 6, 20, 1, 17, 173]
abbrev dktX6_festive_1 : List UInt8 := dkwX6_festive_1 ++ []
def dkwX6_festive_0 : List UInt8 := [42, 3, 181, 0, 119, 42, 27, 182, 1, 192, 153, 0, 19, 32, 184, 1, 157, 153, 0, 12, 42, 27, 32]
abbrev dktX6_festive_0 : List UInt8 := dkwX6_festive_0 ++ dktX6_festive_1
theorem dksX6_festive_0 : cX6_festive.data.toList.drop 0 = dktX6_festive_0 := by decide +kernel
theorem dksX6_festive_1 : cX6_festive.data.toList.drop 23 = dktX6_festive_1 := dk_seg dksX6_festive_0 23 rfl rfl
theorem dX6_festive_0 : decode cX6_festive 0 = .ok (.aload_n 0, 1) := dk_42 (dk_at dksX6_festive_0 0 rfl rfl)
theorem dX6_festive_1 : decode cX6_festive 1 = .ok (.iconst 0, 1) := dk_3 (dk_at dksX6_festive_0 1 rfl rfl)
theorem dX6_festive_2 : decode cX6_festive 2 = .ok (.putfield 119, 3) := dk_181 0 119 (dk_at dksX6_festive_0 2 rfl rfl)
theorem dX6_festive_5 : decode cX6_festive 5 = .ok (.aload_n 0, 1) := dk_42 (dk_at dksX6_festive_0 5 rfl rfl)
theorem dX6_festive_6 : decode cX6_festive 6 = .ok (.iload_n 1, 1) := dk_27 (dk_at dksX6_festive_0 6 rfl rfl)
theorem dX6_festive_7 : decode cX6_festive 7 = .ok (.invokevirtual 448, 3) := dk_182 1 192 (dk_at dksX6_festive_0 7 rfl rfl)
theorem dX6_festive_10 : decode cX6_festive 10 = .ok (.ifCond .eq 19, 3) := dk_153 0 19 (dk_at dksX6_festive_0 10 rfl rfl)
theorem dX6_festive_13 : decode cX6_festive 13 = .ok (.lload_n 2, 1) := dk_32 (dk_at dksX6_festive_0 13 rfl rfl)
theorem dX6_festive_14 : decode cX6_festive 14 = .ok (.invokestatic 413, 3) := dk_184 1 157 (dk_at dksX6_festive_0 14 rfl rfl)
theorem dX6_festive_17 : decode cX6_festive 17 = .ok (.ifCond .eq 12, 3) := dk_153 0 12 (dk_at dksX6_festive_0 17 rfl rfl)
theorem dX6_festive_20 : decode cX6_festive 20 = .ok (.aload_n 0, 1) := dk_42 (dk_at dksX6_festive_0 20 rfl rfl)
theorem dX6_festive_21 : decode cX6_festive 21 = .ok (.iload_n 1, 1) := dk_27 (dk_at dksX6_festive_0 21 rfl rfl)
theorem dX6_festive_22 : decode cX6_festive 22 = .ok (.lload_n 2, 1) := dk_32 (dk_at dksX6_festive_0 22 rfl rfl)
theorem dX6_festive_23 : decode cX6_festive 23 = .ok (.invokevirtual 458, 3) := dk_182 1 202 (dk_at dksX6_festive_1 0 rfl rfl)
theorem dX6_festive_26 : decode cX6_festive 26 = .ok (.goto 6, 3) := dk_167 0 6 (dk_at dksX6_festive_1 3 rfl rfl)
theorem dX6_festive_29 : decode cX6_festive 29 = .ok (.ldc2_w 273, 3) := dk_20 1 17 (dk_at dksX6_festive_1 6 rfl rfl)
theorem dX6_festive_32 : decode cX6_festive 32 = .ok (.lreturn, 1) := dk_173 (dk_at dksX6_festive_1 9 rfl rfl)
abbrev cX6_festiveOf : ByteArray := prog_20_method_74_code
def yX6_festiveOf : MethodName := ⟨RX6, "festiveOf", "(IJ)J"⟩
def dkwX6_festiveOf_2 : List UInt8 := [20, 1, 200, 173]
abbrev dktX6_festiveOf_2 : List UInt8 := dkwX6_festiveOf_2 ++ []
def dkwX6_festiveOf_1 : List UInt8 := [27, 22, 4, 182, 1, 195, 9, 148, 153, 0, 6, 22, 4, 173, 22, 4, 10, 97, 55, 4, 167, 255, 215]
abbrev dktX6_festiveOf_1 : List UInt8 := dkwX6_festiveOf_1 ++ dktX6_festiveOf_2
def dkwX6_festiveOf_0 : List UInt8 := [32, 55, 4, 22, 4, 32, 20, 1, 198, 97, 148, 156, 0, 36, 22, 4, 20, 0, 125, 148, 157, 0, 27, 42]
abbrev dktX6_festiveOf_0 : List UInt8 := dkwX6_festiveOf_0 ++ dktX6_festiveOf_1
theorem dksX6_festiveOf_0 : cX6_festiveOf.data.toList.drop 0 = dktX6_festiveOf_0 := by decide +kernel
theorem dksX6_festiveOf_1 : cX6_festiveOf.data.toList.drop 24 = dktX6_festiveOf_1 := dk_seg dksX6_festiveOf_0 24 rfl rfl
theorem dksX6_festiveOf_2 : cX6_festiveOf.data.toList.drop 47 = dktX6_festiveOf_2 := dk_seg dksX6_festiveOf_1 23 rfl rfl
theorem dX6_festiveOf_0 : decode cX6_festiveOf 0 = .ok (.lload_n 2, 1) := dk_32 (dk_at dksX6_festiveOf_0 0 rfl rfl)
theorem dX6_festiveOf_1 : decode cX6_festiveOf 1 = .ok (.lstore 4, 2) := dk_55 4 (dk_at dksX6_festiveOf_0 1 rfl rfl)
theorem dX6_festiveOf_3 : decode cX6_festiveOf 3 = .ok (.lload 4, 2) := dk_22 4 (dk_at dksX6_festiveOf_0 3 rfl rfl)
theorem dX6_festiveOf_5 : decode cX6_festiveOf 5 = .ok (.lload_n 2, 1) := dk_32 (dk_at dksX6_festiveOf_0 5 rfl rfl)
theorem dX6_festiveOf_6 : decode cX6_festiveOf 6 = .ok (.ldc2_w 454, 3) := dk_20 1 198 (dk_at dksX6_festiveOf_0 6 rfl rfl)
theorem dX6_festiveOf_9 : decode cX6_festiveOf 9 = .ok (.ladd, 1) := dk_97 (dk_at dksX6_festiveOf_0 9 rfl rfl)
theorem dX6_festiveOf_10 : decode cX6_festiveOf 10 = .ok (.lcmp, 1) := dk_148 (dk_at dksX6_festiveOf_0 10 rfl rfl)
theorem dX6_festiveOf_11 : decode cX6_festiveOf 11 = .ok (.ifCond .ge 36, 3) := dk_156 0 36 (dk_at dksX6_festiveOf_0 11 rfl rfl)
theorem dX6_festiveOf_14 : decode cX6_festiveOf 14 = .ok (.lload 4, 2) := dk_22 4 (dk_at dksX6_festiveOf_0 14 rfl rfl)
theorem dX6_festiveOf_16 : decode cX6_festiveOf 16 = .ok (.ldc2_w 125, 3) := dk_20 0 125 (dk_at dksX6_festiveOf_0 16 rfl rfl)
theorem dX6_festiveOf_19 : decode cX6_festiveOf 19 = .ok (.lcmp, 1) := dk_148 (dk_at dksX6_festiveOf_0 19 rfl rfl)
theorem dX6_festiveOf_20 : decode cX6_festiveOf 20 = .ok (.ifCond .gt 27, 3) := dk_157 0 27 (dk_at dksX6_festiveOf_0 20 rfl rfl)
theorem dX6_festiveOf_23 : decode cX6_festiveOf 23 = .ok (.aload_n 0, 1) := dk_42 (dk_at dksX6_festiveOf_0 23 rfl rfl)
theorem dX6_festiveOf_24 : decode cX6_festiveOf 24 = .ok (.iload_n 1, 1) := dk_27 (dk_at dksX6_festiveOf_1 0 rfl rfl)
theorem dX6_festiveOf_25 : decode cX6_festiveOf 25 = .ok (.lload 4, 2) := dk_22 4 (dk_at dksX6_festiveOf_1 1 rfl rfl)
theorem dX6_festiveOf_27 : decode cX6_festiveOf 27 = .ok (.invokevirtual 451, 3) := dk_182 1 195 (dk_at dksX6_festiveOf_1 3 rfl rfl)
theorem dX6_festiveOf_30 : decode cX6_festiveOf 30 = .ok (.lconst 0, 1) := dk_9 (dk_at dksX6_festiveOf_1 6 rfl rfl)
theorem dX6_festiveOf_31 : decode cX6_festiveOf 31 = .ok (.lcmp, 1) := dk_148 (dk_at dksX6_festiveOf_1 7 rfl rfl)
theorem dX6_festiveOf_32 : decode cX6_festiveOf 32 = .ok (.ifCond .eq 6, 3) := dk_153 0 6 (dk_at dksX6_festiveOf_1 8 rfl rfl)
theorem dX6_festiveOf_35 : decode cX6_festiveOf 35 = .ok (.lload 4, 2) := dk_22 4 (dk_at dksX6_festiveOf_1 11 rfl rfl)
theorem dX6_festiveOf_37 : decode cX6_festiveOf 37 = .ok (.lreturn, 1) := dk_173 (dk_at dksX6_festiveOf_1 13 rfl rfl)
theorem dX6_festiveOf_38 : decode cX6_festiveOf 38 = .ok (.lload 4, 2) := dk_22 4 (dk_at dksX6_festiveOf_1 14 rfl rfl)
theorem dX6_festiveOf_40 : decode cX6_festiveOf 40 = .ok (.lconst 1, 1) := dk_10 (dk_at dksX6_festiveOf_1 16 rfl rfl)
theorem dX6_festiveOf_41 : decode cX6_festiveOf 41 = .ok (.ladd, 1) := dk_97 (dk_at dksX6_festiveOf_1 17 rfl rfl)
theorem dX6_festiveOf_42 : decode cX6_festiveOf 42 = .ok (.lstore 4, 2) := dk_55 4 (dk_at dksX6_festiveOf_1 18 rfl rfl)
theorem dX6_festiveOf_44 : decode cX6_festiveOf 44 = .ok (.goto (-41), 3) := dk_167 255 215 (dk_at dksX6_festiveOf_1 20 rfl rfl)
theorem dX6_festiveOf_47 : decode cX6_festiveOf 47 = .ok (.ldc2_w 456, 3) := dk_20 1 200 (dk_at dksX6_festiveOf_2 0 rfl rfl)
theorem dX6_festiveOf_50 : decode cX6_festiveOf 50 = .ok (.lreturn, 1) := dk_173 (dk_at dksX6_festiveOf_2 3 rfl rfl)
abbrev cX6_rule : ByteArray := prog_20_method_76_code
def yX6_rule : MethodName := ⟨RX6, "rule", "(IJ)J"⟩
def dkwX6_rule_1 : List UInt8 := [42, 27, 32, 182, 1, 195, 55, 4, 42, 180, 1, 172, 153, 0, 9, 20, 1, 205, 167, 0, 5, 22, 4, 173]
abbrev dktX6_rule_1 : List UInt8 := dkwX6_rule_1 ++ []
def dkwX6_rule_0 : List UInt8 := [42, 3, 181, 0, 119, 42, 27, 182, 1, 192, 153, 0, 10, 32, 184, 1, 157, 154, 0, 7, 20, 1, 205, 173]
abbrev dktX6_rule_0 : List UInt8 := dkwX6_rule_0 ++ dktX6_rule_1
theorem dksX6_rule_0 : cX6_rule.data.toList.drop 0 = dktX6_rule_0 := by decide +kernel
theorem dksX6_rule_1 : cX6_rule.data.toList.drop 24 = dktX6_rule_1 := dk_seg dksX6_rule_0 24 rfl rfl
theorem dX6_rule_0 : decode cX6_rule 0 = .ok (.aload_n 0, 1) := dk_42 (dk_at dksX6_rule_0 0 rfl rfl)
theorem dX6_rule_1 : decode cX6_rule 1 = .ok (.iconst 0, 1) := dk_3 (dk_at dksX6_rule_0 1 rfl rfl)
theorem dX6_rule_2 : decode cX6_rule 2 = .ok (.putfield 119, 3) := dk_181 0 119 (dk_at dksX6_rule_0 2 rfl rfl)
theorem dX6_rule_5 : decode cX6_rule 5 = .ok (.aload_n 0, 1) := dk_42 (dk_at dksX6_rule_0 5 rfl rfl)
theorem dX6_rule_6 : decode cX6_rule 6 = .ok (.iload_n 1, 1) := dk_27 (dk_at dksX6_rule_0 6 rfl rfl)
theorem dX6_rule_7 : decode cX6_rule 7 = .ok (.invokevirtual 448, 3) := dk_182 1 192 (dk_at dksX6_rule_0 7 rfl rfl)
theorem dX6_rule_10 : decode cX6_rule 10 = .ok (.ifCond .eq 10, 3) := dk_153 0 10 (dk_at dksX6_rule_0 10 rfl rfl)
theorem dX6_rule_13 : decode cX6_rule 13 = .ok (.lload_n 2, 1) := dk_32 (dk_at dksX6_rule_0 13 rfl rfl)
theorem dX6_rule_14 : decode cX6_rule 14 = .ok (.invokestatic 413, 3) := dk_184 1 157 (dk_at dksX6_rule_0 14 rfl rfl)
theorem dX6_rule_17 : decode cX6_rule 17 = .ok (.ifCond .ne 7, 3) := dk_154 0 7 (dk_at dksX6_rule_0 17 rfl rfl)
theorem dX6_rule_20 : decode cX6_rule 20 = .ok (.ldc2_w 461, 3) := dk_20 1 205 (dk_at dksX6_rule_0 20 rfl rfl)
theorem dX6_rule_23 : decode cX6_rule 23 = .ok (.lreturn, 1) := dk_173 (dk_at dksX6_rule_0 23 rfl rfl)
theorem dX6_rule_24 : decode cX6_rule 24 = .ok (.aload_n 0, 1) := dk_42 (dk_at dksX6_rule_1 0 rfl rfl)
theorem dX6_rule_25 : decode cX6_rule 25 = .ok (.iload_n 1, 1) := dk_27 (dk_at dksX6_rule_1 1 rfl rfl)
theorem dX6_rule_26 : decode cX6_rule 26 = .ok (.lload_n 2, 1) := dk_32 (dk_at dksX6_rule_1 2 rfl rfl)
theorem dX6_rule_27 : decode cX6_rule 27 = .ok (.invokevirtual 451, 3) := dk_182 1 195 (dk_at dksX6_rule_1 3 rfl rfl)
theorem dX6_rule_30 : decode cX6_rule 30 = .ok (.lstore 4, 2) := dk_55 4 (dk_at dksX6_rule_1 6 rfl rfl)
theorem dX6_rule_32 : decode cX6_rule 32 = .ok (.aload_n 0, 1) := dk_42 (dk_at dksX6_rule_1 8 rfl rfl)
theorem dX6_rule_33 : decode cX6_rule 33 = .ok (.getfield 428, 3) := dk_180 1 172 (dk_at dksX6_rule_1 9 rfl rfl)
theorem dX6_rule_36 : decode cX6_rule 36 = .ok (.ifCond .eq 9, 3) := dk_153 0 9 (dk_at dksX6_rule_1 12 rfl rfl)
theorem dX6_rule_39 : decode cX6_rule 39 = .ok (.ldc2_w 461, 3) := dk_20 1 205 (dk_at dksX6_rule_1 15 rfl rfl)
theorem dX6_rule_42 : decode cX6_rule 42 = .ok (.goto 5, 3) := dk_167 0 5 (dk_at dksX6_rule_1 18 rfl rfl)
theorem dX6_rule_45 : decode cX6_rule 45 = .ok (.lload 4, 2) := dk_22 4 (dk_at dksX6_rule_1 21 rfl rfl)
theorem dX6_rule_47 : decode cX6_rule 47 = .ok (.lreturn, 1) := dk_173 (dk_at dksX6_rule_1 23 rfl rfl)
abbrev cX6_life : ByteArray := prog_20_method_78_code
def yX6_life : MethodName := ⟨RX6, "life", "(II)J"⟩
def dkwX6_life_2 : List UInt8 := [20, 1, 17, 173]
abbrev dktX6_life_2 : List UInt8 := dkwX6_life_2 ++ []
def dkwX6_life_1 : List UInt8 := [180, 0, 41, 27, 47, 167, 0, 20, 28, 4, 160, 0, 12, 42, 180, 0, 45, 27, 47, 167, 0, 6]
abbrev dktX6_life_1 : List UInt8 := dkwX6_life_1 ++ dktX6_life_2
def dkwX6_life_0 : List UInt8 := [42, 3, 181, 0, 119, 42, 27, 182, 1, 207, 154, 0, 9, 20, 1, 17, 167, 0, 33, 28, 154, 0, 12, 42]
abbrev dktX6_life_0 : List UInt8 := dkwX6_life_0 ++ dktX6_life_1
theorem dksX6_life_0 : cX6_life.data.toList.drop 0 = dktX6_life_0 := by decide +kernel
theorem dksX6_life_1 : cX6_life.data.toList.drop 24 = dktX6_life_1 := dk_seg dksX6_life_0 24 rfl rfl
theorem dksX6_life_2 : cX6_life.data.toList.drop 46 = dktX6_life_2 := dk_seg dksX6_life_1 22 rfl rfl
theorem dX6_life_0 : decode cX6_life 0 = .ok (.aload_n 0, 1) := dk_42 (dk_at dksX6_life_0 0 rfl rfl)
theorem dX6_life_1 : decode cX6_life 1 = .ok (.iconst 0, 1) := dk_3 (dk_at dksX6_life_0 1 rfl rfl)
theorem dX6_life_2 : decode cX6_life 2 = .ok (.putfield 119, 3) := dk_181 0 119 (dk_at dksX6_life_0 2 rfl rfl)
theorem dX6_life_5 : decode cX6_life 5 = .ok (.aload_n 0, 1) := dk_42 (dk_at dksX6_life_0 5 rfl rfl)
theorem dX6_life_6 : decode cX6_life 6 = .ok (.iload_n 1, 1) := dk_27 (dk_at dksX6_life_0 6 rfl rfl)
theorem dX6_life_7 : decode cX6_life 7 = .ok (.invokevirtual 463, 3) := dk_182 1 207 (dk_at dksX6_life_0 7 rfl rfl)
theorem dX6_life_10 : decode cX6_life 10 = .ok (.ifCond .ne 9, 3) := dk_154 0 9 (dk_at dksX6_life_0 10 rfl rfl)
theorem dX6_life_13 : decode cX6_life 13 = .ok (.ldc2_w 273, 3) := dk_20 1 17 (dk_at dksX6_life_0 13 rfl rfl)
theorem dX6_life_16 : decode cX6_life 16 = .ok (.goto 33, 3) := dk_167 0 33 (dk_at dksX6_life_0 16 rfl rfl)
theorem dX6_life_19 : decode cX6_life 19 = .ok (.iload_n 2, 1) := dk_28 (dk_at dksX6_life_0 19 rfl rfl)
theorem dX6_life_20 : decode cX6_life 20 = .ok (.ifCond .ne 12, 3) := dk_154 0 12 (dk_at dksX6_life_0 20 rfl rfl)
theorem dX6_life_23 : decode cX6_life 23 = .ok (.aload_n 0, 1) := dk_42 (dk_at dksX6_life_0 23 rfl rfl)
theorem dX6_life_24 : decode cX6_life 24 = .ok (.getfield 41, 3) := dk_180 0 41 (dk_at dksX6_life_1 0 rfl rfl)
theorem dX6_life_27 : decode cX6_life 27 = .ok (.iload_n 1, 1) := dk_27 (dk_at dksX6_life_1 3 rfl rfl)
theorem dX6_life_28 : decode cX6_life 28 = .ok (.laload, 1) := dk_47 (dk_at dksX6_life_1 4 rfl rfl)
theorem dX6_life_29 : decode cX6_life 29 = .ok (.goto 20, 3) := dk_167 0 20 (dk_at dksX6_life_1 5 rfl rfl)
theorem dX6_life_32 : decode cX6_life 32 = .ok (.iload_n 2, 1) := dk_28 (dk_at dksX6_life_1 8 rfl rfl)
theorem dX6_life_33 : decode cX6_life 33 = .ok (.iconst 1, 1) := dk_4 (dk_at dksX6_life_1 9 rfl rfl)
theorem dX6_life_34 : decode cX6_life 34 = .ok (.if_icmp .ne 12, 3) := dk_160 0 12 (dk_at dksX6_life_1 10 rfl rfl)
theorem dX6_life_37 : decode cX6_life 37 = .ok (.aload_n 0, 1) := dk_42 (dk_at dksX6_life_1 13 rfl rfl)
theorem dX6_life_38 : decode cX6_life 38 = .ok (.getfield 45, 3) := dk_180 0 45 (dk_at dksX6_life_1 14 rfl rfl)
theorem dX6_life_41 : decode cX6_life 41 = .ok (.iload_n 1, 1) := dk_27 (dk_at dksX6_life_1 17 rfl rfl)
theorem dX6_life_42 : decode cX6_life 42 = .ok (.laload, 1) := dk_47 (dk_at dksX6_life_1 18 rfl rfl)
theorem dX6_life_43 : decode cX6_life 43 = .ok (.goto 6, 3) := dk_167 0 6 (dk_at dksX6_life_1 19 rfl rfl)
theorem dX6_life_46 : decode cX6_life 46 = .ok (.ldc2_w 273, 3) := dk_20 1 17 (dk_at dksX6_life_2 0 rfl rfl)
theorem dX6_life_49 : decode cX6_life 49 = .ok (.lreturn, 1) := dk_173 (dk_at dksX6_life_2 3 rfl rfl)
abbrev cX6_isPerson : ByteArray := prog_20_method_77_code
def yX6_isPerson : MethodName := ⟨RX6, "isPerson", "(I)Z"⟩
def dkwX6_isPerson_0 : List UInt8 := [27, 155, 0, 15, 27, 42, 180, 0, 223, 162, 0, 7, 4, 167, 0, 4, 3, 172]
abbrev dktX6_isPerson_0 : List UInt8 := dkwX6_isPerson_0 ++ []
theorem dksX6_isPerson_0 : cX6_isPerson.data.toList.drop 0 = dktX6_isPerson_0 := by decide +kernel
theorem dX6_isPerson_0 : decode cX6_isPerson 0 = .ok (.iload_n 1, 1) := dk_27 (dk_at dksX6_isPerson_0 0 rfl rfl)
theorem dX6_isPerson_1 : decode cX6_isPerson 1 = .ok (.ifCond .lt 15, 3) := dk_155 0 15 (dk_at dksX6_isPerson_0 1 rfl rfl)
theorem dX6_isPerson_4 : decode cX6_isPerson 4 = .ok (.iload_n 1, 1) := dk_27 (dk_at dksX6_isPerson_0 4 rfl rfl)
theorem dX6_isPerson_5 : decode cX6_isPerson 5 = .ok (.aload_n 0, 1) := dk_42 (dk_at dksX6_isPerson_0 5 rfl rfl)
theorem dX6_isPerson_6 : decode cX6_isPerson 6 = .ok (.getfield 223, 3) := dk_180 0 223 (dk_at dksX6_isPerson_0 6 rfl rfl)
theorem dX6_isPerson_9 : decode cX6_isPerson 9 = .ok (.if_icmp .ge 7, 3) := dk_162 0 7 (dk_at dksX6_isPerson_0 9 rfl rfl)
theorem dX6_isPerson_12 : decode cX6_isPerson 12 = .ok (.iconst 1, 1) := dk_4 (dk_at dksX6_isPerson_0 12 rfl rfl)
theorem dX6_isPerson_13 : decode cX6_isPerson 13 = .ok (.goto 4, 3) := dk_167 0 4 (dk_at dksX6_isPerson_0 13 rfl rfl)
theorem dX6_isPerson_16 : decode cX6_isPerson 16 = .ok (.iconst 0, 1) := dk_3 (dk_at dksX6_isPerson_0 16 rfl rfl)
theorem dX6_isPerson_17 : decode cX6_isPerson 17 = .ok (.ireturn, 1) := dk_172 (dk_at dksX6_isPerson_0 17 rfl rfl)
abbrev cX6_age : ByteArray := prog_20_method_79_code
def yX6_age : MethodName := ⟨RX6, "age", "(IJI)J"⟩
def dkwX6_age_8 : List UInt8 := [22, 5, 101, 167, 0, 4, 9, 173]
abbrev dktX6_age_8 : List UInt8 := dkwX6_age_8 ++ []
def dkwX6_age_7 : List UInt8 := [148, 156, 0, 8, 22, 12, 167, 0, 5, 22, 14, 55, 12, 22, 12, 22, 5, 148, 158, 0, 11, 22, 12]
abbrev dktX6_age_7 : List UInt8 := dkwX6_age_7 ++ dktX6_age_8
def dkwX6_age_6 : List UInt8 := [180, 0, 26, 6, 21, 4, 104, 46, 133, 22, 7, 101, 22, 9, 117, 109, 10, 97, 55, 14, 22, 12, 22, 14]
abbrev dktX6_age_6 : List UInt8 := dkwX6_age_6 ++ dktX6_age_7
def dkwX6_age_5 : List UInt8 := [180, 1, 140, 10, 101, 167, 0, 9, 42, 21, 4, 182, 1, 136, 55, 12, 22, 9, 9, 148, 156, 0, 41, 42]
abbrev dktX6_age_5 : List UInt8 := dkwX6_age_5 ++ dktX6_age_6
def dkwX6_age_4 : List UInt8 := [21, 11, 153, 0, 29, 42, 180, 1, 143, 22, 7, 148, 155, 0, 10, 42, 180, 1, 140, 167, 0, 18, 42]
abbrev dktX6_age_4 : List UInt8 := dkwX6_age_4 ++ dktX6_age_5
def dkwX6_age_3 : List UInt8 := [42, 180, 0, 26, 6, 21, 4, 104, 4, 96, 46, 133, 55, 9, 42, 21, 4, 32, 182, 1, 160, 54, 11]
abbrev dktX6_age_3 : List UInt8 := dkwX6_age_3 ++ dktX6_age_4
def dkwX6_age_2 : List UInt8 := [27, 47, 182, 1, 160, 154, 0, 7, 20, 1, 17, 173, 42, 180, 1, 140, 55, 5, 42, 180, 1, 143, 55, 7]
abbrev dktX6_age_2 : List UInt8 := dkwX6_age_2 ++ dktX6_age_3
def dkwX6_age_1 : List UInt8 := [182, 1, 148, 153, 0, 29, 32, 42, 180, 0, 41, 27, 47, 148, 155, 0, 18, 42, 21, 4, 42, 180, 0, 41]
abbrev dktX6_age_1 : List UInt8 := dkwX6_age_1 ++ dktX6_age_2
def dkwX6_age_0 : List UInt8 := [42, 3, 181, 0, 119, 42, 27, 182, 1, 207, 153, 0, 45, 32, 184, 1, 157, 153, 0, 38, 42, 21, 4]
abbrev dktX6_age_0 : List UInt8 := dkwX6_age_0 ++ dktX6_age_1
theorem dksX6_age_0 : cX6_age.data.toList.drop 0 = dktX6_age_0 := by decide +kernel
theorem dksX6_age_1 : cX6_age.data.toList.drop 23 = dktX6_age_1 := dk_seg dksX6_age_0 23 rfl rfl
theorem dksX6_age_2 : cX6_age.data.toList.drop 47 = dktX6_age_2 := dk_seg dksX6_age_1 24 rfl rfl
theorem dksX6_age_3 : cX6_age.data.toList.drop 71 = dktX6_age_3 := dk_seg dksX6_age_2 24 rfl rfl
theorem dksX6_age_4 : cX6_age.data.toList.drop 94 = dktX6_age_4 := dk_seg dksX6_age_3 23 rfl rfl
theorem dksX6_age_5 : cX6_age.data.toList.drop 117 = dktX6_age_5 := dk_seg dksX6_age_4 23 rfl rfl
theorem dksX6_age_6 : cX6_age.data.toList.drop 141 = dktX6_age_6 := dk_seg dksX6_age_5 24 rfl rfl
theorem dksX6_age_7 : cX6_age.data.toList.drop 165 = dktX6_age_7 := dk_seg dksX6_age_6 24 rfl rfl
theorem dksX6_age_8 : cX6_age.data.toList.drop 188 = dktX6_age_8 := dk_seg dksX6_age_7 23 rfl rfl
theorem dX6_age_0 : decode cX6_age 0 = .ok (.aload_n 0, 1) := dk_42 (dk_at dksX6_age_0 0 rfl rfl)
theorem dX6_age_1 : decode cX6_age 1 = .ok (.iconst 0, 1) := dk_3 (dk_at dksX6_age_0 1 rfl rfl)
theorem dX6_age_2 : decode cX6_age 2 = .ok (.putfield 119, 3) := dk_181 0 119 (dk_at dksX6_age_0 2 rfl rfl)
theorem dX6_age_5 : decode cX6_age 5 = .ok (.aload_n 0, 1) := dk_42 (dk_at dksX6_age_0 5 rfl rfl)
theorem dX6_age_6 : decode cX6_age 6 = .ok (.iload_n 1, 1) := dk_27 (dk_at dksX6_age_0 6 rfl rfl)
theorem dX6_age_7 : decode cX6_age 7 = .ok (.invokevirtual 463, 3) := dk_182 1 207 (dk_at dksX6_age_0 7 rfl rfl)
theorem dX6_age_10 : decode cX6_age 10 = .ok (.ifCond .eq 45, 3) := dk_153 0 45 (dk_at dksX6_age_0 10 rfl rfl)
theorem dX6_age_13 : decode cX6_age 13 = .ok (.lload_n 2, 1) := dk_32 (dk_at dksX6_age_0 13 rfl rfl)
theorem dX6_age_14 : decode cX6_age 14 = .ok (.invokestatic 413, 3) := dk_184 1 157 (dk_at dksX6_age_0 14 rfl rfl)
theorem dX6_age_17 : decode cX6_age 17 = .ok (.ifCond .eq 38, 3) := dk_153 0 38 (dk_at dksX6_age_0 17 rfl rfl)
theorem dX6_age_20 : decode cX6_age 20 = .ok (.aload_n 0, 1) := dk_42 (dk_at dksX6_age_0 20 rfl rfl)
theorem dX6_age_21 : decode cX6_age 21 = .ok (.iload 4, 2) := dk_21 4 (dk_at dksX6_age_0 21 rfl rfl)
theorem dX6_age_23 : decode cX6_age 23 = .ok (.invokevirtual 404, 3) := dk_182 1 148 (dk_at dksX6_age_1 0 rfl rfl)
theorem dX6_age_26 : decode cX6_age 26 = .ok (.ifCond .eq 29, 3) := dk_153 0 29 (dk_at dksX6_age_1 3 rfl rfl)
theorem dX6_age_29 : decode cX6_age 29 = .ok (.lload_n 2, 1) := dk_32 (dk_at dksX6_age_1 6 rfl rfl)
theorem dX6_age_30 : decode cX6_age 30 = .ok (.aload_n 0, 1) := dk_42 (dk_at dksX6_age_1 7 rfl rfl)
theorem dX6_age_31 : decode cX6_age 31 = .ok (.getfield 41, 3) := dk_180 0 41 (dk_at dksX6_age_1 8 rfl rfl)
theorem dX6_age_34 : decode cX6_age 34 = .ok (.iload_n 1, 1) := dk_27 (dk_at dksX6_age_1 11 rfl rfl)
theorem dX6_age_35 : decode cX6_age 35 = .ok (.laload, 1) := dk_47 (dk_at dksX6_age_1 12 rfl rfl)
theorem dX6_age_36 : decode cX6_age 36 = .ok (.lcmp, 1) := dk_148 (dk_at dksX6_age_1 13 rfl rfl)
theorem dX6_age_37 : decode cX6_age 37 = .ok (.ifCond .lt 18, 3) := dk_155 0 18 (dk_at dksX6_age_1 14 rfl rfl)
theorem dX6_age_40 : decode cX6_age 40 = .ok (.aload_n 0, 1) := dk_42 (dk_at dksX6_age_1 17 rfl rfl)
theorem dX6_age_41 : decode cX6_age 41 = .ok (.iload 4, 2) := dk_21 4 (dk_at dksX6_age_1 18 rfl rfl)
theorem dX6_age_43 : decode cX6_age 43 = .ok (.aload_n 0, 1) := dk_42 (dk_at dksX6_age_1 20 rfl rfl)
theorem dX6_age_44 : decode cX6_age 44 = .ok (.getfield 41, 3) := dk_180 0 41 (dk_at dksX6_age_1 21 rfl rfl)
theorem dX6_age_47 : decode cX6_age 47 = .ok (.iload_n 1, 1) := dk_27 (dk_at dksX6_age_2 0 rfl rfl)
theorem dX6_age_48 : decode cX6_age 48 = .ok (.laload, 1) := dk_47 (dk_at dksX6_age_2 1 rfl rfl)
theorem dX6_age_49 : decode cX6_age 49 = .ok (.invokevirtual 416, 3) := dk_182 1 160 (dk_at dksX6_age_2 2 rfl rfl)
theorem dX6_age_52 : decode cX6_age 52 = .ok (.ifCond .ne 7, 3) := dk_154 0 7 (dk_at dksX6_age_2 5 rfl rfl)
theorem dX6_age_55 : decode cX6_age 55 = .ok (.ldc2_w 273, 3) := dk_20 1 17 (dk_at dksX6_age_2 8 rfl rfl)
theorem dX6_age_58 : decode cX6_age 58 = .ok (.lreturn, 1) := dk_173 (dk_at dksX6_age_2 11 rfl rfl)
theorem dX6_age_59 : decode cX6_age 59 = .ok (.aload_n 0, 1) := dk_42 (dk_at dksX6_age_2 12 rfl rfl)
theorem dX6_age_60 : decode cX6_age 60 = .ok (.getfield 396, 3) := dk_180 1 140 (dk_at dksX6_age_2 13 rfl rfl)
theorem dX6_age_63 : decode cX6_age 63 = .ok (.lstore 5, 2) := dk_55 5 (dk_at dksX6_age_2 16 rfl rfl)
theorem dX6_age_65 : decode cX6_age 65 = .ok (.aload_n 0, 1) := dk_42 (dk_at dksX6_age_2 18 rfl rfl)
theorem dX6_age_66 : decode cX6_age 66 = .ok (.getfield 399, 3) := dk_180 1 143 (dk_at dksX6_age_2 19 rfl rfl)
theorem dX6_age_69 : decode cX6_age 69 = .ok (.lstore 7, 2) := dk_55 7 (dk_at dksX6_age_2 22 rfl rfl)
theorem dX6_age_71 : decode cX6_age 71 = .ok (.aload_n 0, 1) := dk_42 (dk_at dksX6_age_3 0 rfl rfl)
theorem dX6_age_72 : decode cX6_age 72 = .ok (.getfield 26, 3) := dk_180 0 26 (dk_at dksX6_age_3 1 rfl rfl)
theorem dX6_age_75 : decode cX6_age 75 = .ok (.iconst 3, 1) := dk_6 (dk_at dksX6_age_3 4 rfl rfl)
theorem dX6_age_76 : decode cX6_age 76 = .ok (.iload 4, 2) := dk_21 4 (dk_at dksX6_age_3 5 rfl rfl)
theorem dX6_age_78 : decode cX6_age 78 = .ok (.imul, 1) := dk_104 (dk_at dksX6_age_3 7 rfl rfl)
theorem dX6_age_79 : decode cX6_age 79 = .ok (.iconst 1, 1) := dk_4 (dk_at dksX6_age_3 8 rfl rfl)
theorem dX6_age_80 : decode cX6_age 80 = .ok (.iadd, 1) := dk_96 (dk_at dksX6_age_3 9 rfl rfl)
theorem dX6_age_81 : decode cX6_age 81 = .ok (.iaload, 1) := dk_46 (dk_at dksX6_age_3 10 rfl rfl)
theorem dX6_age_82 : decode cX6_age 82 = .ok (.i2l, 1) := dk_133 (dk_at dksX6_age_3 11 rfl rfl)
theorem dX6_age_83 : decode cX6_age 83 = .ok (.lstore 9, 2) := dk_55 9 (dk_at dksX6_age_3 12 rfl rfl)
theorem dX6_age_85 : decode cX6_age 85 = .ok (.aload_n 0, 1) := dk_42 (dk_at dksX6_age_3 14 rfl rfl)
theorem dX6_age_86 : decode cX6_age 86 = .ok (.iload 4, 2) := dk_21 4 (dk_at dksX6_age_3 15 rfl rfl)
theorem dX6_age_88 : decode cX6_age 88 = .ok (.lload_n 2, 1) := dk_32 (dk_at dksX6_age_3 17 rfl rfl)
theorem dX6_age_89 : decode cX6_age 89 = .ok (.invokevirtual 416, 3) := dk_182 1 160 (dk_at dksX6_age_3 18 rfl rfl)
theorem dX6_age_92 : decode cX6_age 92 = .ok (.istore 11, 2) := dk_54 11 (dk_at dksX6_age_3 21 rfl rfl)
theorem dX6_age_94 : decode cX6_age 94 = .ok (.iload 11, 2) := dk_21 11 (dk_at dksX6_age_4 0 rfl rfl)
theorem dX6_age_96 : decode cX6_age 96 = .ok (.ifCond .eq 29, 3) := dk_153 0 29 (dk_at dksX6_age_4 2 rfl rfl)
theorem dX6_age_99 : decode cX6_age 99 = .ok (.aload_n 0, 1) := dk_42 (dk_at dksX6_age_4 5 rfl rfl)
theorem dX6_age_100 : decode cX6_age 100 = .ok (.getfield 399, 3) := dk_180 1 143 (dk_at dksX6_age_4 6 rfl rfl)
theorem dX6_age_103 : decode cX6_age 103 = .ok (.lload 7, 2) := dk_22 7 (dk_at dksX6_age_4 9 rfl rfl)
theorem dX6_age_105 : decode cX6_age 105 = .ok (.lcmp, 1) := dk_148 (dk_at dksX6_age_4 11 rfl rfl)
theorem dX6_age_106 : decode cX6_age 106 = .ok (.ifCond .lt 10, 3) := dk_155 0 10 (dk_at dksX6_age_4 12 rfl rfl)
theorem dX6_age_109 : decode cX6_age 109 = .ok (.aload_n 0, 1) := dk_42 (dk_at dksX6_age_4 15 rfl rfl)
theorem dX6_age_110 : decode cX6_age 110 = .ok (.getfield 396, 3) := dk_180 1 140 (dk_at dksX6_age_4 16 rfl rfl)
theorem dX6_age_113 : decode cX6_age 113 = .ok (.goto 18, 3) := dk_167 0 18 (dk_at dksX6_age_4 19 rfl rfl)
theorem dX6_age_116 : decode cX6_age 116 = .ok (.aload_n 0, 1) := dk_42 (dk_at dksX6_age_4 22 rfl rfl)
theorem dX6_age_117 : decode cX6_age 117 = .ok (.getfield 396, 3) := dk_180 1 140 (dk_at dksX6_age_5 0 rfl rfl)
theorem dX6_age_120 : decode cX6_age 120 = .ok (.lconst 1, 1) := dk_10 (dk_at dksX6_age_5 3 rfl rfl)
theorem dX6_age_121 : decode cX6_age 121 = .ok (.lsub, 1) := dk_101 (dk_at dksX6_age_5 4 rfl rfl)
theorem dX6_age_122 : decode cX6_age 122 = .ok (.goto 9, 3) := dk_167 0 9 (dk_at dksX6_age_5 5 rfl rfl)
theorem dX6_age_125 : decode cX6_age 125 = .ok (.aload_n 0, 1) := dk_42 (dk_at dksX6_age_5 8 rfl rfl)
theorem dX6_age_126 : decode cX6_age 126 = .ok (.iload 4, 2) := dk_21 4 (dk_at dksX6_age_5 9 rfl rfl)
theorem dX6_age_128 : decode cX6_age 128 = .ok (.invokevirtual 392, 3) := dk_182 1 136 (dk_at dksX6_age_5 11 rfl rfl)
theorem dX6_age_131 : decode cX6_age 131 = .ok (.lstore 12, 2) := dk_55 12 (dk_at dksX6_age_5 14 rfl rfl)
theorem dX6_age_133 : decode cX6_age 133 = .ok (.lload 9, 2) := dk_22 9 (dk_at dksX6_age_5 16 rfl rfl)
theorem dX6_age_135 : decode cX6_age 135 = .ok (.lconst 0, 1) := dk_9 (dk_at dksX6_age_5 18 rfl rfl)
theorem dX6_age_136 : decode cX6_age 136 = .ok (.lcmp, 1) := dk_148 (dk_at dksX6_age_5 19 rfl rfl)
theorem dX6_age_137 : decode cX6_age 137 = .ok (.ifCond .ge 41, 3) := dk_156 0 41 (dk_at dksX6_age_5 20 rfl rfl)
theorem dX6_age_140 : decode cX6_age 140 = .ok (.aload_n 0, 1) := dk_42 (dk_at dksX6_age_5 23 rfl rfl)
theorem dX6_age_141 : decode cX6_age 141 = .ok (.getfield 26, 3) := dk_180 0 26 (dk_at dksX6_age_6 0 rfl rfl)
theorem dX6_age_144 : decode cX6_age 144 = .ok (.iconst 3, 1) := dk_6 (dk_at dksX6_age_6 3 rfl rfl)
theorem dX6_age_145 : decode cX6_age 145 = .ok (.iload 4, 2) := dk_21 4 (dk_at dksX6_age_6 4 rfl rfl)
theorem dX6_age_147 : decode cX6_age 147 = .ok (.imul, 1) := dk_104 (dk_at dksX6_age_6 6 rfl rfl)
theorem dX6_age_148 : decode cX6_age 148 = .ok (.iaload, 1) := dk_46 (dk_at dksX6_age_6 7 rfl rfl)
theorem dX6_age_149 : decode cX6_age 149 = .ok (.i2l, 1) := dk_133 (dk_at dksX6_age_6 8 rfl rfl)
theorem dX6_age_150 : decode cX6_age 150 = .ok (.lload 7, 2) := dk_22 7 (dk_at dksX6_age_6 9 rfl rfl)
theorem dX6_age_152 : decode cX6_age 152 = .ok (.lsub, 1) := dk_101 (dk_at dksX6_age_6 11 rfl rfl)
theorem dX6_age_153 : decode cX6_age 153 = .ok (.lload 9, 2) := dk_22 9 (dk_at dksX6_age_6 12 rfl rfl)
theorem dX6_age_155 : decode cX6_age 155 = .ok (.lneg, 1) := dk_117 (dk_at dksX6_age_6 14 rfl rfl)
theorem dX6_age_156 : decode cX6_age 156 = .ok (.ldiv, 1) := dk_109 (dk_at dksX6_age_6 15 rfl rfl)
theorem dX6_age_157 : decode cX6_age 157 = .ok (.lconst 1, 1) := dk_10 (dk_at dksX6_age_6 16 rfl rfl)
theorem dX6_age_158 : decode cX6_age 158 = .ok (.ladd, 1) := dk_97 (dk_at dksX6_age_6 17 rfl rfl)
theorem dX6_age_159 : decode cX6_age 159 = .ok (.lstore 14, 2) := dk_55 14 (dk_at dksX6_age_6 18 rfl rfl)
theorem dX6_age_161 : decode cX6_age 161 = .ok (.lload 12, 2) := dk_22 12 (dk_at dksX6_age_6 20 rfl rfl)
theorem dX6_age_163 : decode cX6_age 163 = .ok (.lload 14, 2) := dk_22 14 (dk_at dksX6_age_6 22 rfl rfl)
theorem dX6_age_165 : decode cX6_age 165 = .ok (.lcmp, 1) := dk_148 (dk_at dksX6_age_7 0 rfl rfl)
theorem dX6_age_166 : decode cX6_age 166 = .ok (.ifCond .ge 8, 3) := dk_156 0 8 (dk_at dksX6_age_7 1 rfl rfl)
theorem dX6_age_169 : decode cX6_age 169 = .ok (.lload 12, 2) := dk_22 12 (dk_at dksX6_age_7 4 rfl rfl)
theorem dX6_age_171 : decode cX6_age 171 = .ok (.goto 5, 3) := dk_167 0 5 (dk_at dksX6_age_7 6 rfl rfl)
theorem dX6_age_174 : decode cX6_age 174 = .ok (.lload 14, 2) := dk_22 14 (dk_at dksX6_age_7 9 rfl rfl)
theorem dX6_age_176 : decode cX6_age 176 = .ok (.lstore 12, 2) := dk_55 12 (dk_at dksX6_age_7 11 rfl rfl)
theorem dX6_age_178 : decode cX6_age 178 = .ok (.lload 12, 2) := dk_22 12 (dk_at dksX6_age_7 13 rfl rfl)
theorem dX6_age_180 : decode cX6_age 180 = .ok (.lload 5, 2) := dk_22 5 (dk_at dksX6_age_7 15 rfl rfl)
theorem dX6_age_182 : decode cX6_age 182 = .ok (.lcmp, 1) := dk_148 (dk_at dksX6_age_7 17 rfl rfl)
theorem dX6_age_183 : decode cX6_age 183 = .ok (.ifCond .le 11, 3) := dk_158 0 11 (dk_at dksX6_age_7 18 rfl rfl)
theorem dX6_age_186 : decode cX6_age 186 = .ok (.lload 12, 2) := dk_22 12 (dk_at dksX6_age_7 21 rfl rfl)
theorem dX6_age_188 : decode cX6_age 188 = .ok (.lload 5, 2) := dk_22 5 (dk_at dksX6_age_8 0 rfl rfl)
theorem dX6_age_190 : decode cX6_age 190 = .ok (.lsub, 1) := dk_101 (dk_at dksX6_age_8 2 rfl rfl)
theorem dX6_age_191 : decode cX6_age 191 = .ok (.goto 4, 3) := dk_167 0 4 (dk_at dksX6_age_8 3 rfl rfl)
theorem dX6_age_194 : decode cX6_age 194 = .ok (.lconst 0, 1) := dk_9 (dk_at dksX6_age_8 6 rfl rfl)
theorem dX6_age_195 : decode cX6_age 195 = .ok (.lreturn, 1) := dk_173 (dk_at dksX6_age_8 7 rfl rfl)
abbrev cX6_elder : ByteArray := prog_20_method_80_code
def yX6_elder : MethodName := ⟨RX6, "elder", "(II)I"⟩
def dkwX6_elder_2 : List UInt8 := [172]
abbrev dktX6_elder_2 : List UInt8 := dkwX6_elder_2 ++ []
def dkwX6_elder_1 : List UInt8 := [167, 0, 24, 42, 180, 0, 41, 28, 47, 42, 180, 0, 41, 27, 47, 148, 156, 0, 7, 28, 167, 0, 4, 27]
abbrev dktX6_elder_1 : List UInt8 := dkwX6_elder_1 ++ dktX6_elder_2
def dkwX6_elder_0 : List UInt8 := [42, 3, 181, 0, 119, 42, 27, 182, 1, 207, 153, 0, 11, 42, 28, 182, 1, 207, 154, 0, 7, 2]
abbrev dktX6_elder_0 : List UInt8 := dkwX6_elder_0 ++ dktX6_elder_1
theorem dksX6_elder_0 : cX6_elder.data.toList.drop 0 = dktX6_elder_0 := by decide +kernel
theorem dksX6_elder_1 : cX6_elder.data.toList.drop 22 = dktX6_elder_1 := dk_seg dksX6_elder_0 22 rfl rfl
theorem dksX6_elder_2 : cX6_elder.data.toList.drop 46 = dktX6_elder_2 := dk_seg dksX6_elder_1 24 rfl rfl
theorem dX6_elder_0 : decode cX6_elder 0 = .ok (.aload_n 0, 1) := dk_42 (dk_at dksX6_elder_0 0 rfl rfl)
theorem dX6_elder_1 : decode cX6_elder 1 = .ok (.iconst 0, 1) := dk_3 (dk_at dksX6_elder_0 1 rfl rfl)
theorem dX6_elder_2 : decode cX6_elder 2 = .ok (.putfield 119, 3) := dk_181 0 119 (dk_at dksX6_elder_0 2 rfl rfl)
theorem dX6_elder_5 : decode cX6_elder 5 = .ok (.aload_n 0, 1) := dk_42 (dk_at dksX6_elder_0 5 rfl rfl)
theorem dX6_elder_6 : decode cX6_elder 6 = .ok (.iload_n 1, 1) := dk_27 (dk_at dksX6_elder_0 6 rfl rfl)
theorem dX6_elder_7 : decode cX6_elder 7 = .ok (.invokevirtual 463, 3) := dk_182 1 207 (dk_at dksX6_elder_0 7 rfl rfl)
theorem dX6_elder_10 : decode cX6_elder 10 = .ok (.ifCond .eq 11, 3) := dk_153 0 11 (dk_at dksX6_elder_0 10 rfl rfl)
theorem dX6_elder_13 : decode cX6_elder 13 = .ok (.aload_n 0, 1) := dk_42 (dk_at dksX6_elder_0 13 rfl rfl)
theorem dX6_elder_14 : decode cX6_elder 14 = .ok (.iload_n 2, 1) := dk_28 (dk_at dksX6_elder_0 14 rfl rfl)
theorem dX6_elder_15 : decode cX6_elder 15 = .ok (.invokevirtual 463, 3) := dk_182 1 207 (dk_at dksX6_elder_0 15 rfl rfl)
theorem dX6_elder_18 : decode cX6_elder 18 = .ok (.ifCond .ne 7, 3) := dk_154 0 7 (dk_at dksX6_elder_0 18 rfl rfl)
theorem dX6_elder_21 : decode cX6_elder 21 = .ok (.iconst (-1), 1) := dk_2 (dk_at dksX6_elder_0 21 rfl rfl)
theorem dX6_elder_22 : decode cX6_elder 22 = .ok (.goto 24, 3) := dk_167 0 24 (dk_at dksX6_elder_1 0 rfl rfl)
theorem dX6_elder_25 : decode cX6_elder 25 = .ok (.aload_n 0, 1) := dk_42 (dk_at dksX6_elder_1 3 rfl rfl)
theorem dX6_elder_26 : decode cX6_elder 26 = .ok (.getfield 41, 3) := dk_180 0 41 (dk_at dksX6_elder_1 4 rfl rfl)
theorem dX6_elder_29 : decode cX6_elder 29 = .ok (.iload_n 2, 1) := dk_28 (dk_at dksX6_elder_1 7 rfl rfl)
theorem dX6_elder_30 : decode cX6_elder 30 = .ok (.laload, 1) := dk_47 (dk_at dksX6_elder_1 8 rfl rfl)
theorem dX6_elder_31 : decode cX6_elder 31 = .ok (.aload_n 0, 1) := dk_42 (dk_at dksX6_elder_1 9 rfl rfl)
theorem dX6_elder_32 : decode cX6_elder 32 = .ok (.getfield 41, 3) := dk_180 0 41 (dk_at dksX6_elder_1 10 rfl rfl)
theorem dX6_elder_35 : decode cX6_elder 35 = .ok (.iload_n 1, 1) := dk_27 (dk_at dksX6_elder_1 13 rfl rfl)
theorem dX6_elder_36 : decode cX6_elder 36 = .ok (.laload, 1) := dk_47 (dk_at dksX6_elder_1 14 rfl rfl)
theorem dX6_elder_37 : decode cX6_elder 37 = .ok (.lcmp, 1) := dk_148 (dk_at dksX6_elder_1 15 rfl rfl)
theorem dX6_elder_38 : decode cX6_elder 38 = .ok (.ifCond .ge 7, 3) := dk_156 0 7 (dk_at dksX6_elder_1 16 rfl rfl)
theorem dX6_elder_41 : decode cX6_elder 41 = .ok (.iload_n 2, 1) := dk_28 (dk_at dksX6_elder_1 19 rfl rfl)
theorem dX6_elder_42 : decode cX6_elder 42 = .ok (.goto 4, 3) := dk_167 0 4 (dk_at dksX6_elder_1 20 rfl rfl)
theorem dX6_elder_45 : decode cX6_elder 45 = .ok (.iload_n 1, 1) := dk_27 (dk_at dksX6_elder_1 23 rfl rfl)
theorem dX6_elder_46 : decode cX6_elder 46 = .ok (.ireturn, 1) := dk_172 (dk_at dksX6_elder_2 0 rfl rfl)
abbrev cX6_often : ByteArray := prog_20_method_81_code
def yX6_often : MethodName := ⟨RX6, "often", "(IIIJ)J"⟩
def dkwX6_often_8 : List UInt8 := [156, 0, 7, 9, 167, 0, 10, 22, 12, 22, 10, 101, 10, 97, 173]
abbrev dktX6_often_8 : List UInt8 := dkwX6_often_8 ++ []
def dkwX6_often_7 : List UInt8 := [55, 14, 22, 12, 22, 14, 148, 156, 0, 8, 22, 12, 167, 0, 5, 22, 14, 55, 12, 22, 12, 22, 10, 148]
abbrev dktX6_often_7 : List UInt8 := dkwX6_often_7 ++ dktX6_often_8
def dkwX6_often_6 : List UInt8 := [156, 0, 43, 22, 6, 22, 4, 148, 156, 0, 5, 9, 173, 22, 6, 22, 4, 101, 22, 8, 117, 109, 10, 97]
abbrev dktX6_often_6 : List UInt8 := dkwX6_often_6 ++ dktX6_often_7
def dkwX6_often_5 : List UInt8 := [97, 55, 14, 22, 10, 22, 14, 148, 158, 0, 8, 22, 10, 167, 0, 5, 22, 14, 55, 10, 22, 8, 9, 148]
abbrev dktX6_often_5 : List UInt8 := dkwX6_often_5 ++ dktX6_often_6
def dkwX6_often_4 : List UInt8 := [158, 0, 44, 22, 4, 22, 6, 148, 158, 0, 36, 22, 4, 22, 6, 101, 10, 101, 22, 8, 109, 20, 1, 127]
abbrev dktX6_often_4 : List UInt8 := dkwX6_often_4 ++ dktX6_often_5
def dkwX6_often_3 : List UInt8 := [133, 55, 12, 22, 8, 9, 148, 154, 0, 13, 22, 6, 22, 4, 148, 156, 0, 5, 9, 173, 22, 8, 9, 148]
abbrev dktX6_often_3 : List UInt8 := dkwX6_often_3 ++ dktX6_often_4
def dkwX6_often_2 : List UInt8 := [27, 104, 46, 133, 55, 6, 42, 180, 0, 26, 6, 27, 104, 4, 96, 46, 133, 55, 8, 28, 133, 55, 10, 29]
abbrev dktX6_often_2 : List UInt8 := dkwX6_often_2 ++ dktX6_often_3
def dkwX6_often_1 : List UInt8 := [163, 0, 15, 28, 29, 163, 0, 10, 22, 4, 10, 148, 156, 0, 7, 20, 1, 17, 173, 42, 180, 0, 26, 6]
abbrev dktX6_often_1 : List UInt8 := dkwX6_often_1 ++ dktX6_often_2
def dkwX6_often_0 : List UInt8 := [42, 3, 181, 0, 119, 42, 27, 182, 1, 148, 153, 0, 27, 28, 4, 161, 0, 22, 29, 19, 1, 163]
abbrev dktX6_often_0 : List UInt8 := dkwX6_often_0 ++ dktX6_often_1
theorem dksX6_often_0 : cX6_often.data.toList.drop 0 = dktX6_often_0 := by decide +kernel
theorem dksX6_often_1 : cX6_often.data.toList.drop 22 = dktX6_often_1 := dk_seg dksX6_often_0 22 rfl rfl
theorem dksX6_often_2 : cX6_often.data.toList.drop 46 = dktX6_often_2 := dk_seg dksX6_often_1 24 rfl rfl
theorem dksX6_often_3 : cX6_often.data.toList.drop 70 = dktX6_often_3 := dk_seg dksX6_often_2 24 rfl rfl
theorem dksX6_often_4 : cX6_often.data.toList.drop 94 = dktX6_often_4 := dk_seg dksX6_often_3 24 rfl rfl
theorem dksX6_often_5 : cX6_often.data.toList.drop 118 = dktX6_often_5 := dk_seg dksX6_often_4 24 rfl rfl
theorem dksX6_often_6 : cX6_often.data.toList.drop 142 = dktX6_often_6 := dk_seg dksX6_often_5 24 rfl rfl
theorem dksX6_often_7 : cX6_often.data.toList.drop 166 = dktX6_often_7 := dk_seg dksX6_often_6 24 rfl rfl
theorem dksX6_often_8 : cX6_often.data.toList.drop 190 = dktX6_often_8 := dk_seg dksX6_often_7 24 rfl rfl
theorem dX6_often_0 : decode cX6_often 0 = .ok (.aload_n 0, 1) := dk_42 (dk_at dksX6_often_0 0 rfl rfl)
theorem dX6_often_1 : decode cX6_often 1 = .ok (.iconst 0, 1) := dk_3 (dk_at dksX6_often_0 1 rfl rfl)
theorem dX6_often_2 : decode cX6_often 2 = .ok (.putfield 119, 3) := dk_181 0 119 (dk_at dksX6_often_0 2 rfl rfl)
theorem dX6_often_5 : decode cX6_often 5 = .ok (.aload_n 0, 1) := dk_42 (dk_at dksX6_often_0 5 rfl rfl)
theorem dX6_often_6 : decode cX6_often 6 = .ok (.iload_n 1, 1) := dk_27 (dk_at dksX6_often_0 6 rfl rfl)
theorem dX6_often_7 : decode cX6_often 7 = .ok (.invokevirtual 404, 3) := dk_182 1 148 (dk_at dksX6_often_0 7 rfl rfl)
theorem dX6_often_10 : decode cX6_often 10 = .ok (.ifCond .eq 27, 3) := dk_153 0 27 (dk_at dksX6_often_0 10 rfl rfl)
theorem dX6_often_13 : decode cX6_often 13 = .ok (.iload_n 2, 1) := dk_28 (dk_at dksX6_often_0 13 rfl rfl)
theorem dX6_often_14 : decode cX6_often 14 = .ok (.iconst 1, 1) := dk_4 (dk_at dksX6_often_0 14 rfl rfl)
theorem dX6_often_15 : decode cX6_often 15 = .ok (.if_icmp .lt 22, 3) := dk_161 0 22 (dk_at dksX6_often_0 15 rfl rfl)
theorem dX6_often_18 : decode cX6_often 18 = .ok (.iload_n 3, 1) := dk_29 (dk_at dksX6_often_0 18 rfl rfl)
theorem dX6_often_19 : decode cX6_often 19 = .ok (.ldc_w 419, 3) := dk_19 1 163 (dk_at dksX6_often_0 19 rfl rfl)
theorem dX6_often_22 : decode cX6_often 22 = .ok (.if_icmp .gt 15, 3) := dk_163 0 15 (dk_at dksX6_often_1 0 rfl rfl)
theorem dX6_often_25 : decode cX6_often 25 = .ok (.iload_n 2, 1) := dk_28 (dk_at dksX6_often_1 3 rfl rfl)
theorem dX6_often_26 : decode cX6_often 26 = .ok (.iload_n 3, 1) := dk_29 (dk_at dksX6_often_1 4 rfl rfl)
theorem dX6_often_27 : decode cX6_often 27 = .ok (.if_icmp .gt 10, 3) := dk_163 0 10 (dk_at dksX6_often_1 5 rfl rfl)
theorem dX6_often_30 : decode cX6_often 30 = .ok (.lload 4, 2) := dk_22 4 (dk_at dksX6_often_1 8 rfl rfl)
theorem dX6_often_32 : decode cX6_often 32 = .ok (.lconst 1, 1) := dk_10 (dk_at dksX6_often_1 10 rfl rfl)
theorem dX6_often_33 : decode cX6_often 33 = .ok (.lcmp, 1) := dk_148 (dk_at dksX6_often_1 11 rfl rfl)
theorem dX6_often_34 : decode cX6_often 34 = .ok (.ifCond .ge 7, 3) := dk_156 0 7 (dk_at dksX6_often_1 12 rfl rfl)
theorem dX6_often_37 : decode cX6_often 37 = .ok (.ldc2_w 273, 3) := dk_20 1 17 (dk_at dksX6_often_1 15 rfl rfl)
theorem dX6_often_40 : decode cX6_often 40 = .ok (.lreturn, 1) := dk_173 (dk_at dksX6_often_1 18 rfl rfl)
theorem dX6_often_41 : decode cX6_often 41 = .ok (.aload_n 0, 1) := dk_42 (dk_at dksX6_often_1 19 rfl rfl)
theorem dX6_often_42 : decode cX6_often 42 = .ok (.getfield 26, 3) := dk_180 0 26 (dk_at dksX6_often_1 20 rfl rfl)
theorem dX6_often_45 : decode cX6_often 45 = .ok (.iconst 3, 1) := dk_6 (dk_at dksX6_often_1 23 rfl rfl)
theorem dX6_often_46 : decode cX6_often 46 = .ok (.iload_n 1, 1) := dk_27 (dk_at dksX6_often_2 0 rfl rfl)
theorem dX6_often_47 : decode cX6_often 47 = .ok (.imul, 1) := dk_104 (dk_at dksX6_often_2 1 rfl rfl)
theorem dX6_often_48 : decode cX6_often 48 = .ok (.iaload, 1) := dk_46 (dk_at dksX6_often_2 2 rfl rfl)
theorem dX6_often_49 : decode cX6_often 49 = .ok (.i2l, 1) := dk_133 (dk_at dksX6_often_2 3 rfl rfl)
theorem dX6_often_50 : decode cX6_often 50 = .ok (.lstore 6, 2) := dk_55 6 (dk_at dksX6_often_2 4 rfl rfl)
theorem dX6_often_52 : decode cX6_often 52 = .ok (.aload_n 0, 1) := dk_42 (dk_at dksX6_often_2 6 rfl rfl)
theorem dX6_often_53 : decode cX6_often 53 = .ok (.getfield 26, 3) := dk_180 0 26 (dk_at dksX6_often_2 7 rfl rfl)
theorem dX6_often_56 : decode cX6_often 56 = .ok (.iconst 3, 1) := dk_6 (dk_at dksX6_often_2 10 rfl rfl)
theorem dX6_often_57 : decode cX6_often 57 = .ok (.iload_n 1, 1) := dk_27 (dk_at dksX6_often_2 11 rfl rfl)
theorem dX6_often_58 : decode cX6_often 58 = .ok (.imul, 1) := dk_104 (dk_at dksX6_often_2 12 rfl rfl)
theorem dX6_often_59 : decode cX6_often 59 = .ok (.iconst 1, 1) := dk_4 (dk_at dksX6_often_2 13 rfl rfl)
theorem dX6_often_60 : decode cX6_often 60 = .ok (.iadd, 1) := dk_96 (dk_at dksX6_often_2 14 rfl rfl)
theorem dX6_often_61 : decode cX6_often 61 = .ok (.iaload, 1) := dk_46 (dk_at dksX6_often_2 15 rfl rfl)
theorem dX6_often_62 : decode cX6_often 62 = .ok (.i2l, 1) := dk_133 (dk_at dksX6_often_2 16 rfl rfl)
theorem dX6_often_63 : decode cX6_often 63 = .ok (.lstore 8, 2) := dk_55 8 (dk_at dksX6_often_2 17 rfl rfl)
theorem dX6_often_65 : decode cX6_often 65 = .ok (.iload_n 2, 1) := dk_28 (dk_at dksX6_often_2 19 rfl rfl)
theorem dX6_often_66 : decode cX6_often 66 = .ok (.i2l, 1) := dk_133 (dk_at dksX6_often_2 20 rfl rfl)
theorem dX6_often_67 : decode cX6_often 67 = .ok (.lstore 10, 2) := dk_55 10 (dk_at dksX6_often_2 21 rfl rfl)
theorem dX6_often_69 : decode cX6_often 69 = .ok (.iload_n 3, 1) := dk_29 (dk_at dksX6_often_2 23 rfl rfl)
theorem dX6_often_70 : decode cX6_often 70 = .ok (.i2l, 1) := dk_133 (dk_at dksX6_often_3 0 rfl rfl)
theorem dX6_often_71 : decode cX6_often 71 = .ok (.lstore 12, 2) := dk_55 12 (dk_at dksX6_often_3 1 rfl rfl)
theorem dX6_often_73 : decode cX6_often 73 = .ok (.lload 8, 2) := dk_22 8 (dk_at dksX6_often_3 3 rfl rfl)
theorem dX6_often_75 : decode cX6_often 75 = .ok (.lconst 0, 1) := dk_9 (dk_at dksX6_often_3 5 rfl rfl)
theorem dX6_often_76 : decode cX6_often 76 = .ok (.lcmp, 1) := dk_148 (dk_at dksX6_often_3 6 rfl rfl)
theorem dX6_often_77 : decode cX6_often 77 = .ok (.ifCond .ne 13, 3) := dk_154 0 13 (dk_at dksX6_often_3 7 rfl rfl)
theorem dX6_often_80 : decode cX6_often 80 = .ok (.lload 6, 2) := dk_22 6 (dk_at dksX6_often_3 10 rfl rfl)
theorem dX6_often_82 : decode cX6_often 82 = .ok (.lload 4, 2) := dk_22 4 (dk_at dksX6_often_3 12 rfl rfl)
theorem dX6_often_84 : decode cX6_often 84 = .ok (.lcmp, 1) := dk_148 (dk_at dksX6_often_3 14 rfl rfl)
theorem dX6_often_85 : decode cX6_often 85 = .ok (.ifCond .ge 5, 3) := dk_156 0 5 (dk_at dksX6_often_3 15 rfl rfl)
theorem dX6_often_88 : decode cX6_often 88 = .ok (.lconst 0, 1) := dk_9 (dk_at dksX6_often_3 18 rfl rfl)
theorem dX6_often_89 : decode cX6_often 89 = .ok (.lreturn, 1) := dk_173 (dk_at dksX6_often_3 19 rfl rfl)
theorem dX6_often_90 : decode cX6_often 90 = .ok (.lload 8, 2) := dk_22 8 (dk_at dksX6_often_3 20 rfl rfl)
theorem dX6_often_92 : decode cX6_often 92 = .ok (.lconst 0, 1) := dk_9 (dk_at dksX6_often_3 22 rfl rfl)
theorem dX6_often_93 : decode cX6_often 93 = .ok (.lcmp, 1) := dk_148 (dk_at dksX6_often_3 23 rfl rfl)
theorem dX6_often_94 : decode cX6_often 94 = .ok (.ifCond .le 44, 3) := dk_158 0 44 (dk_at dksX6_often_4 0 rfl rfl)
theorem dX6_often_97 : decode cX6_often 97 = .ok (.lload 4, 2) := dk_22 4 (dk_at dksX6_often_4 3 rfl rfl)
theorem dX6_often_99 : decode cX6_often 99 = .ok (.lload 6, 2) := dk_22 6 (dk_at dksX6_often_4 5 rfl rfl)
theorem dX6_often_101 : decode cX6_often 101 = .ok (.lcmp, 1) := dk_148 (dk_at dksX6_often_4 7 rfl rfl)
theorem dX6_often_102 : decode cX6_often 102 = .ok (.ifCond .le 36, 3) := dk_158 0 36 (dk_at dksX6_often_4 8 rfl rfl)
theorem dX6_often_105 : decode cX6_often 105 = .ok (.lload 4, 2) := dk_22 4 (dk_at dksX6_often_4 11 rfl rfl)
theorem dX6_often_107 : decode cX6_often 107 = .ok (.lload 6, 2) := dk_22 6 (dk_at dksX6_often_4 13 rfl rfl)
theorem dX6_often_109 : decode cX6_often 109 = .ok (.lsub, 1) := dk_101 (dk_at dksX6_often_4 15 rfl rfl)
theorem dX6_often_110 : decode cX6_often 110 = .ok (.lconst 1, 1) := dk_10 (dk_at dksX6_often_4 16 rfl rfl)
theorem dX6_often_111 : decode cX6_often 111 = .ok (.lsub, 1) := dk_101 (dk_at dksX6_often_4 17 rfl rfl)
theorem dX6_often_112 : decode cX6_often 112 = .ok (.lload 8, 2) := dk_22 8 (dk_at dksX6_often_4 18 rfl rfl)
theorem dX6_often_114 : decode cX6_often 114 = .ok (.ldiv, 1) := dk_109 (dk_at dksX6_often_4 20 rfl rfl)
theorem dX6_often_115 : decode cX6_often 115 = .ok (.ldc2_w 383, 3) := dk_20 1 127 (dk_at dksX6_often_4 21 rfl rfl)
theorem dX6_often_118 : decode cX6_often 118 = .ok (.ladd, 1) := dk_97 (dk_at dksX6_often_5 0 rfl rfl)
theorem dX6_often_119 : decode cX6_often 119 = .ok (.lstore 14, 2) := dk_55 14 (dk_at dksX6_often_5 1 rfl rfl)
theorem dX6_often_121 : decode cX6_often 121 = .ok (.lload 10, 2) := dk_22 10 (dk_at dksX6_often_5 3 rfl rfl)
theorem dX6_often_123 : decode cX6_often 123 = .ok (.lload 14, 2) := dk_22 14 (dk_at dksX6_often_5 5 rfl rfl)
theorem dX6_often_125 : decode cX6_often 125 = .ok (.lcmp, 1) := dk_148 (dk_at dksX6_often_5 7 rfl rfl)
theorem dX6_often_126 : decode cX6_often 126 = .ok (.ifCond .le 8, 3) := dk_158 0 8 (dk_at dksX6_often_5 8 rfl rfl)
theorem dX6_often_129 : decode cX6_often 129 = .ok (.lload 10, 2) := dk_22 10 (dk_at dksX6_often_5 11 rfl rfl)
theorem dX6_often_131 : decode cX6_often 131 = .ok (.goto 5, 3) := dk_167 0 5 (dk_at dksX6_often_5 13 rfl rfl)
theorem dX6_often_134 : decode cX6_often 134 = .ok (.lload 14, 2) := dk_22 14 (dk_at dksX6_often_5 16 rfl rfl)
theorem dX6_often_136 : decode cX6_often 136 = .ok (.lstore 10, 2) := dk_55 10 (dk_at dksX6_often_5 18 rfl rfl)
theorem dX6_often_138 : decode cX6_often 138 = .ok (.lload 8, 2) := dk_22 8 (dk_at dksX6_often_5 20 rfl rfl)
theorem dX6_often_140 : decode cX6_often 140 = .ok (.lconst 0, 1) := dk_9 (dk_at dksX6_often_5 22 rfl rfl)
theorem dX6_often_141 : decode cX6_often 141 = .ok (.lcmp, 1) := dk_148 (dk_at dksX6_often_5 23 rfl rfl)
theorem dX6_often_142 : decode cX6_often 142 = .ok (.ifCond .ge 43, 3) := dk_156 0 43 (dk_at dksX6_often_6 0 rfl rfl)
theorem dX6_often_145 : decode cX6_often 145 = .ok (.lload 6, 2) := dk_22 6 (dk_at dksX6_often_6 3 rfl rfl)
theorem dX6_often_147 : decode cX6_often 147 = .ok (.lload 4, 2) := dk_22 4 (dk_at dksX6_often_6 5 rfl rfl)
theorem dX6_often_149 : decode cX6_often 149 = .ok (.lcmp, 1) := dk_148 (dk_at dksX6_often_6 7 rfl rfl)
theorem dX6_often_150 : decode cX6_often 150 = .ok (.ifCond .ge 5, 3) := dk_156 0 5 (dk_at dksX6_often_6 8 rfl rfl)
theorem dX6_often_153 : decode cX6_often 153 = .ok (.lconst 0, 1) := dk_9 (dk_at dksX6_often_6 11 rfl rfl)
theorem dX6_often_154 : decode cX6_often 154 = .ok (.lreturn, 1) := dk_173 (dk_at dksX6_often_6 12 rfl rfl)
theorem dX6_often_155 : decode cX6_often 155 = .ok (.lload 6, 2) := dk_22 6 (dk_at dksX6_often_6 13 rfl rfl)
theorem dX6_often_157 : decode cX6_often 157 = .ok (.lload 4, 2) := dk_22 4 (dk_at dksX6_often_6 15 rfl rfl)
theorem dX6_often_159 : decode cX6_often 159 = .ok (.lsub, 1) := dk_101 (dk_at dksX6_often_6 17 rfl rfl)
theorem dX6_often_160 : decode cX6_often 160 = .ok (.lload 8, 2) := dk_22 8 (dk_at dksX6_often_6 18 rfl rfl)
theorem dX6_often_162 : decode cX6_often 162 = .ok (.lneg, 1) := dk_117 (dk_at dksX6_often_6 20 rfl rfl)
theorem dX6_often_163 : decode cX6_often 163 = .ok (.ldiv, 1) := dk_109 (dk_at dksX6_often_6 21 rfl rfl)
theorem dX6_often_164 : decode cX6_often 164 = .ok (.lconst 1, 1) := dk_10 (dk_at dksX6_often_6 22 rfl rfl)
theorem dX6_often_165 : decode cX6_often 165 = .ok (.ladd, 1) := dk_97 (dk_at dksX6_often_6 23 rfl rfl)
theorem dX6_often_166 : decode cX6_often 166 = .ok (.lstore 14, 2) := dk_55 14 (dk_at dksX6_often_7 0 rfl rfl)
theorem dX6_often_168 : decode cX6_often 168 = .ok (.lload 12, 2) := dk_22 12 (dk_at dksX6_often_7 2 rfl rfl)
theorem dX6_often_170 : decode cX6_often 170 = .ok (.lload 14, 2) := dk_22 14 (dk_at dksX6_often_7 4 rfl rfl)
theorem dX6_often_172 : decode cX6_often 172 = .ok (.lcmp, 1) := dk_148 (dk_at dksX6_often_7 6 rfl rfl)
theorem dX6_often_173 : decode cX6_often 173 = .ok (.ifCond .ge 8, 3) := dk_156 0 8 (dk_at dksX6_often_7 7 rfl rfl)
theorem dX6_often_176 : decode cX6_often 176 = .ok (.lload 12, 2) := dk_22 12 (dk_at dksX6_often_7 10 rfl rfl)
theorem dX6_often_178 : decode cX6_often 178 = .ok (.goto 5, 3) := dk_167 0 5 (dk_at dksX6_often_7 12 rfl rfl)
theorem dX6_often_181 : decode cX6_often 181 = .ok (.lload 14, 2) := dk_22 14 (dk_at dksX6_often_7 15 rfl rfl)
theorem dX6_often_183 : decode cX6_often 183 = .ok (.lstore 12, 2) := dk_55 12 (dk_at dksX6_often_7 17 rfl rfl)
theorem dX6_often_185 : decode cX6_often 185 = .ok (.lload 12, 2) := dk_22 12 (dk_at dksX6_often_7 19 rfl rfl)
theorem dX6_often_187 : decode cX6_often 187 = .ok (.lload 10, 2) := dk_22 10 (dk_at dksX6_often_7 21 rfl rfl)
theorem dX6_often_189 : decode cX6_often 189 = .ok (.lcmp, 1) := dk_148 (dk_at dksX6_often_7 23 rfl rfl)
theorem dX6_often_190 : decode cX6_often 190 = .ok (.ifCond .ge 7, 3) := dk_156 0 7 (dk_at dksX6_often_8 0 rfl rfl)
theorem dX6_often_193 : decode cX6_often 193 = .ok (.lconst 0, 1) := dk_9 (dk_at dksX6_often_8 3 rfl rfl)
theorem dX6_often_194 : decode cX6_often 194 = .ok (.goto 10, 3) := dk_167 0 10 (dk_at dksX6_often_8 4 rfl rfl)
theorem dX6_often_197 : decode cX6_often 197 = .ok (.lload 12, 2) := dk_22 12 (dk_at dksX6_often_8 7 rfl rfl)
theorem dX6_often_199 : decode cX6_often 199 = .ok (.lload 10, 2) := dk_22 10 (dk_at dksX6_often_8 9 rfl rfl)
theorem dX6_often_201 : decode cX6_often 201 = .ok (.lsub, 1) := dk_101 (dk_at dksX6_often_8 11 rfl rfl)
theorem dX6_often_202 : decode cX6_often 202 = .ok (.lconst 1, 1) := dk_10 (dk_at dksX6_often_8 12 rfl rfl)
theorem dX6_often_203 : decode cX6_often 203 = .ok (.ladd, 1) := dk_97 (dk_at dksX6_often_8 13 rfl rfl)
theorem dX6_often_204 : decode cX6_often 204 = .ok (.lreturn, 1) := dk_173 (dk_at dksX6_often_8 14 rfl rfl)
abbrev cX6_springs : ByteArray := prog_20_method_85_code
def yX6_springs : MethodName := ⟨RX6, "springs", "(II)J"⟩
def dkwX6_springs_1 : List UInt8 := [27, 28, 133, 182, 1, 216, 167, 0, 6, 20, 1, 17, 173]
abbrev dktX6_springs_1 : List UInt8 := dkwX6_springs_1 ++ []
def dkwX6_springs_0 : List UInt8 := [42, 3, 181, 0, 119, 42, 27, 182, 1, 148, 153, 0, 23, 42, 27, 28, 133, 182, 1, 213, 153, 0, 13, 42]
abbrev dktX6_springs_0 : List UInt8 := dkwX6_springs_0 ++ dktX6_springs_1
theorem dksX6_springs_0 : cX6_springs.data.toList.drop 0 = dktX6_springs_0 := by decide +kernel
theorem dksX6_springs_1 : cX6_springs.data.toList.drop 24 = dktX6_springs_1 := dk_seg dksX6_springs_0 24 rfl rfl
theorem dX6_springs_0 : decode cX6_springs 0 = .ok (.aload_n 0, 1) := dk_42 (dk_at dksX6_springs_0 0 rfl rfl)
theorem dX6_springs_1 : decode cX6_springs 1 = .ok (.iconst 0, 1) := dk_3 (dk_at dksX6_springs_0 1 rfl rfl)
theorem dX6_springs_2 : decode cX6_springs 2 = .ok (.putfield 119, 3) := dk_181 0 119 (dk_at dksX6_springs_0 2 rfl rfl)
theorem dX6_springs_5 : decode cX6_springs 5 = .ok (.aload_n 0, 1) := dk_42 (dk_at dksX6_springs_0 5 rfl rfl)
theorem dX6_springs_6 : decode cX6_springs 6 = .ok (.iload_n 1, 1) := dk_27 (dk_at dksX6_springs_0 6 rfl rfl)
theorem dX6_springs_7 : decode cX6_springs 7 = .ok (.invokevirtual 404, 3) := dk_182 1 148 (dk_at dksX6_springs_0 7 rfl rfl)
theorem dX6_springs_10 : decode cX6_springs 10 = .ok (.ifCond .eq 23, 3) := dk_153 0 23 (dk_at dksX6_springs_0 10 rfl rfl)
theorem dX6_springs_13 : decode cX6_springs 13 = .ok (.aload_n 0, 1) := dk_42 (dk_at dksX6_springs_0 13 rfl rfl)
theorem dX6_springs_14 : decode cX6_springs 14 = .ok (.iload_n 1, 1) := dk_27 (dk_at dksX6_springs_0 14 rfl rfl)
theorem dX6_springs_15 : decode cX6_springs 15 = .ok (.iload_n 2, 1) := dk_28 (dk_at dksX6_springs_0 15 rfl rfl)
theorem dX6_springs_16 : decode cX6_springs 16 = .ok (.i2l, 1) := dk_133 (dk_at dksX6_springs_0 16 rfl rfl)
theorem dX6_springs_17 : decode cX6_springs 17 = .ok (.invokevirtual 469, 3) := dk_182 1 213 (dk_at dksX6_springs_0 17 rfl rfl)
theorem dX6_springs_20 : decode cX6_springs 20 = .ok (.ifCond .eq 13, 3) := dk_153 0 13 (dk_at dksX6_springs_0 20 rfl rfl)
theorem dX6_springs_23 : decode cX6_springs 23 = .ok (.aload_n 0, 1) := dk_42 (dk_at dksX6_springs_0 23 rfl rfl)
theorem dX6_springs_24 : decode cX6_springs 24 = .ok (.iload_n 1, 1) := dk_27 (dk_at dksX6_springs_1 0 rfl rfl)
theorem dX6_springs_25 : decode cX6_springs 25 = .ok (.iload_n 2, 1) := dk_28 (dk_at dksX6_springs_1 1 rfl rfl)
theorem dX6_springs_26 : decode cX6_springs 26 = .ok (.i2l, 1) := dk_133 (dk_at dksX6_springs_1 2 rfl rfl)
theorem dX6_springs_27 : decode cX6_springs 27 = .ok (.invokevirtual 472, 3) := dk_182 1 216 (dk_at dksX6_springs_1 3 rfl rfl)
theorem dX6_springs_30 : decode cX6_springs 30 = .ok (.goto 6, 3) := dk_167 0 6 (dk_at dksX6_springs_1 6 rfl rfl)
theorem dX6_springs_33 : decode cX6_springs 33 = .ok (.ldc2_w 273, 3) := dk_20 1 17 (dk_at dksX6_springs_1 9 rfl rfl)
theorem dX6_springs_36 : decode cX6_springs 36 = .ok (.lreturn, 1) := dk_173 (dk_at dksX6_springs_1 12 rfl rfl)
abbrev cX6_begins : ByteArray := prog_20_method_83_code
def yX6_begins : MethodName := ⟨RX6, "begins", "(IJ)Z"⟩
def dkwX6_begins_1 : List UInt8 := [167, 0, 4, 3, 172]
abbrev dktX6_begins_1 : List UInt8 := dkwX6_begins_1 ++ []
def dkwX6_begins_0 : List UInt8 := [42, 27, 32, 182, 1, 154, 153, 0, 20, 42, 27, 32, 182, 1, 133, 20, 0, 125, 148, 157, 0, 7, 4]
abbrev dktX6_begins_0 : List UInt8 := dkwX6_begins_0 ++ dktX6_begins_1
theorem dksX6_begins_0 : cX6_begins.data.toList.drop 0 = dktX6_begins_0 := by decide +kernel
theorem dksX6_begins_1 : cX6_begins.data.toList.drop 23 = dktX6_begins_1 := dk_seg dksX6_begins_0 23 rfl rfl
theorem dX6_begins_0 : decode cX6_begins 0 = .ok (.aload_n 0, 1) := dk_42 (dk_at dksX6_begins_0 0 rfl rfl)
theorem dX6_begins_1 : decode cX6_begins 1 = .ok (.iload_n 1, 1) := dk_27 (dk_at dksX6_begins_0 1 rfl rfl)
theorem dX6_begins_2 : decode cX6_begins 2 = .ok (.lload_n 2, 1) := dk_32 (dk_at dksX6_begins_0 2 rfl rfl)
theorem dX6_begins_3 : decode cX6_begins 3 = .ok (.invokevirtual 410, 3) := dk_182 1 154 (dk_at dksX6_begins_0 3 rfl rfl)
theorem dX6_begins_6 : decode cX6_begins 6 = .ok (.ifCond .eq 20, 3) := dk_153 0 20 (dk_at dksX6_begins_0 6 rfl rfl)
theorem dX6_begins_9 : decode cX6_begins 9 = .ok (.aload_n 0, 1) := dk_42 (dk_at dksX6_begins_0 9 rfl rfl)
theorem dX6_begins_10 : decode cX6_begins 10 = .ok (.iload_n 1, 1) := dk_27 (dk_at dksX6_begins_0 10 rfl rfl)
theorem dX6_begins_11 : decode cX6_begins 11 = .ok (.lload_n 2, 1) := dk_32 (dk_at dksX6_begins_0 11 rfl rfl)
theorem dX6_begins_12 : decode cX6_begins 12 = .ok (.invokevirtual 389, 3) := dk_182 1 133 (dk_at dksX6_begins_0 12 rfl rfl)
theorem dX6_begins_15 : decode cX6_begins 15 = .ok (.ldc2_w 125, 3) := dk_20 0 125 (dk_at dksX6_begins_0 15 rfl rfl)
theorem dX6_begins_18 : decode cX6_begins 18 = .ok (.lcmp, 1) := dk_148 (dk_at dksX6_begins_0 18 rfl rfl)
theorem dX6_begins_19 : decode cX6_begins 19 = .ok (.ifCond .gt 7, 3) := dk_157 0 7 (dk_at dksX6_begins_0 19 rfl rfl)
theorem dX6_begins_22 : decode cX6_begins 22 = .ok (.iconst 1, 1) := dk_4 (dk_at dksX6_begins_0 22 rfl rfl)
theorem dX6_begins_23 : decode cX6_begins 23 = .ok (.goto 4, 3) := dk_167 0 4 (dk_at dksX6_begins_1 0 rfl rfl)
theorem dX6_begins_26 : decode cX6_begins 26 = .ok (.iconst 0, 1) := dk_3 (dk_at dksX6_begins_1 3 rfl rfl)
theorem dX6_begins_27 : decode cX6_begins 27 = .ok (.ireturn, 1) := dk_172 (dk_at dksX6_begins_1 4 rfl rfl)
abbrev cX6_springsOf : ByteArray := prog_20_method_84_code
def yX6_springsOf : MethodName := ⟨RX6, "springsOf", "(IJ)J"⟩
def dkwX6_springsOf_2 : List UInt8 := [180, 0, 20, 16, 6, 46, 133, 105, 42, 180, 0, 20, 8, 46, 133, 184, 1, 210, 101, 173]
abbrev dktX6_springsOf_2 : List UInt8 := dkwX6_springsOf_2 ++ []
def dkwX6_springsOf_1 : List UInt8 := [180, 0, 20, 16, 6, 46, 133, 105, 42, 180, 0, 20, 8, 46, 133, 184, 1, 210, 22, 4, 10, 101, 42]
abbrev dktX6_springsOf_1 : List UInt8 := dkwX6_springsOf_1 ++ dktX6_springsOf_2
def dkwX6_springsOf_0 : List UInt8 := [42, 27, 32, 182, 1, 133, 55, 4, 22, 4, 42, 27, 32, 182, 1, 119, 97, 10, 101, 55, 6, 22, 6, 42]
abbrev dktX6_springsOf_0 : List UInt8 := dkwX6_springsOf_0 ++ dktX6_springsOf_1
theorem dksX6_springsOf_0 : cX6_springsOf.data.toList.drop 0 = dktX6_springsOf_0 := by decide +kernel
theorem dksX6_springsOf_1 : cX6_springsOf.data.toList.drop 24 = dktX6_springsOf_1 := dk_seg dksX6_springsOf_0 24 rfl rfl
theorem dksX6_springsOf_2 : cX6_springsOf.data.toList.drop 47 = dktX6_springsOf_2 := dk_seg dksX6_springsOf_1 23 rfl rfl
theorem dX6_springsOf_0 : decode cX6_springsOf 0 = .ok (.aload_n 0, 1) := dk_42 (dk_at dksX6_springsOf_0 0 rfl rfl)
theorem dX6_springsOf_1 : decode cX6_springsOf 1 = .ok (.iload_n 1, 1) := dk_27 (dk_at dksX6_springsOf_0 1 rfl rfl)
theorem dX6_springsOf_2 : decode cX6_springsOf 2 = .ok (.lload_n 2, 1) := dk_32 (dk_at dksX6_springsOf_0 2 rfl rfl)
theorem dX6_springsOf_3 : decode cX6_springsOf 3 = .ok (.invokevirtual 389, 3) := dk_182 1 133 (dk_at dksX6_springsOf_0 3 rfl rfl)
theorem dX6_springsOf_6 : decode cX6_springsOf 6 = .ok (.lstore 4, 2) := dk_55 4 (dk_at dksX6_springsOf_0 6 rfl rfl)
theorem dX6_springsOf_8 : decode cX6_springsOf 8 = .ok (.lload 4, 2) := dk_22 4 (dk_at dksX6_springsOf_0 8 rfl rfl)
theorem dX6_springsOf_10 : decode cX6_springsOf 10 = .ok (.aload_n 0, 1) := dk_42 (dk_at dksX6_springsOf_0 10 rfl rfl)
theorem dX6_springsOf_11 : decode cX6_springsOf 11 = .ok (.iload_n 1, 1) := dk_27 (dk_at dksX6_springsOf_0 11 rfl rfl)
theorem dX6_springsOf_12 : decode cX6_springsOf 12 = .ok (.lload_n 2, 1) := dk_32 (dk_at dksX6_springsOf_0 12 rfl rfl)
theorem dX6_springsOf_13 : decode cX6_springsOf 13 = .ok (.invokevirtual 375, 3) := dk_182 1 119 (dk_at dksX6_springsOf_0 13 rfl rfl)
theorem dX6_springsOf_16 : decode cX6_springsOf 16 = .ok (.ladd, 1) := dk_97 (dk_at dksX6_springsOf_0 16 rfl rfl)
theorem dX6_springsOf_17 : decode cX6_springsOf 17 = .ok (.lconst 1, 1) := dk_10 (dk_at dksX6_springsOf_0 17 rfl rfl)
theorem dX6_springsOf_18 : decode cX6_springsOf 18 = .ok (.lsub, 1) := dk_101 (dk_at dksX6_springsOf_0 18 rfl rfl)
theorem dX6_springsOf_19 : decode cX6_springsOf 19 = .ok (.lstore 6, 2) := dk_55 6 (dk_at dksX6_springsOf_0 19 rfl rfl)
theorem dX6_springsOf_21 : decode cX6_springsOf 21 = .ok (.lload 6, 2) := dk_22 6 (dk_at dksX6_springsOf_0 21 rfl rfl)
theorem dX6_springsOf_23 : decode cX6_springsOf 23 = .ok (.aload_n 0, 1) := dk_42 (dk_at dksX6_springsOf_0 23 rfl rfl)
theorem dX6_springsOf_24 : decode cX6_springsOf 24 = .ok (.getfield 20, 3) := dk_180 0 20 (dk_at dksX6_springsOf_1 0 rfl rfl)
theorem dX6_springsOf_27 : decode cX6_springsOf 27 = .ok (.bipush 6, 2) := dk_16 6 (dk_at dksX6_springsOf_1 3 rfl rfl)
theorem dX6_springsOf_29 : decode cX6_springsOf 29 = .ok (.iaload, 1) := dk_46 (dk_at dksX6_springsOf_1 5 rfl rfl)
theorem dX6_springsOf_30 : decode cX6_springsOf 30 = .ok (.i2l, 1) := dk_133 (dk_at dksX6_springsOf_1 6 rfl rfl)
theorem dX6_springsOf_31 : decode cX6_springsOf 31 = .ok (.lmul, 1) := dk_105 (dk_at dksX6_springsOf_1 7 rfl rfl)
theorem dX6_springsOf_32 : decode cX6_springsOf 32 = .ok (.aload_n 0, 1) := dk_42 (dk_at dksX6_springsOf_1 8 rfl rfl)
theorem dX6_springsOf_33 : decode cX6_springsOf 33 = .ok (.getfield 20, 3) := dk_180 0 20 (dk_at dksX6_springsOf_1 9 rfl rfl)
theorem dX6_springsOf_36 : decode cX6_springsOf 36 = .ok (.iconst 5, 1) := dk_8 (dk_at dksX6_springsOf_1 12 rfl rfl)
theorem dX6_springsOf_37 : decode cX6_springsOf 37 = .ok (.iaload, 1) := dk_46 (dk_at dksX6_springsOf_1 13 rfl rfl)
theorem dX6_springsOf_38 : decode cX6_springsOf 38 = .ok (.i2l, 1) := dk_133 (dk_at dksX6_springsOf_1 14 rfl rfl)
theorem dX6_springsOf_39 : decode cX6_springsOf 39 = .ok (.invokestatic 466, 3) := dk_184 1 210 (dk_at dksX6_springsOf_1 15 rfl rfl)
theorem dX6_springsOf_42 : decode cX6_springsOf 42 = .ok (.lload 4, 2) := dk_22 4 (dk_at dksX6_springsOf_1 18 rfl rfl)
theorem dX6_springsOf_44 : decode cX6_springsOf 44 = .ok (.lconst 1, 1) := dk_10 (dk_at dksX6_springsOf_1 20 rfl rfl)
theorem dX6_springsOf_45 : decode cX6_springsOf 45 = .ok (.lsub, 1) := dk_101 (dk_at dksX6_springsOf_1 21 rfl rfl)
theorem dX6_springsOf_46 : decode cX6_springsOf 46 = .ok (.aload_n 0, 1) := dk_42 (dk_at dksX6_springsOf_1 22 rfl rfl)
theorem dX6_springsOf_47 : decode cX6_springsOf 47 = .ok (.getfield 20, 3) := dk_180 0 20 (dk_at dksX6_springsOf_2 0 rfl rfl)
theorem dX6_springsOf_50 : decode cX6_springsOf 50 = .ok (.bipush 6, 2) := dk_16 6 (dk_at dksX6_springsOf_2 3 rfl rfl)
theorem dX6_springsOf_52 : decode cX6_springsOf 52 = .ok (.iaload, 1) := dk_46 (dk_at dksX6_springsOf_2 5 rfl rfl)
theorem dX6_springsOf_53 : decode cX6_springsOf 53 = .ok (.i2l, 1) := dk_133 (dk_at dksX6_springsOf_2 6 rfl rfl)
theorem dX6_springsOf_54 : decode cX6_springsOf 54 = .ok (.lmul, 1) := dk_105 (dk_at dksX6_springsOf_2 7 rfl rfl)
theorem dX6_springsOf_55 : decode cX6_springsOf 55 = .ok (.aload_n 0, 1) := dk_42 (dk_at dksX6_springsOf_2 8 rfl rfl)
theorem dX6_springsOf_56 : decode cX6_springsOf 56 = .ok (.getfield 20, 3) := dk_180 0 20 (dk_at dksX6_springsOf_2 9 rfl rfl)
theorem dX6_springsOf_59 : decode cX6_springsOf 59 = .ok (.iconst 5, 1) := dk_8 (dk_at dksX6_springsOf_2 12 rfl rfl)
theorem dX6_springsOf_60 : decode cX6_springsOf 60 = .ok (.iaload, 1) := dk_46 (dk_at dksX6_springsOf_2 13 rfl rfl)
theorem dX6_springsOf_61 : decode cX6_springsOf 61 = .ok (.i2l, 1) := dk_133 (dk_at dksX6_springsOf_2 14 rfl rfl)
theorem dX6_springsOf_62 : decode cX6_springsOf 62 = .ok (.invokestatic 466, 3) := dk_184 1 210 (dk_at dksX6_springsOf_2 15 rfl rfl)
theorem dX6_springsOf_65 : decode cX6_springsOf 65 = .ok (.lsub, 1) := dk_101 (dk_at dksX6_springsOf_2 18 rfl rfl)
theorem dX6_springsOf_66 : decode cX6_springsOf 66 = .ok (.lreturn, 1) := dk_173 (dk_at dksX6_springsOf_2 19 rfl rfl)
abbrev cX6_floor : ByteArray := prog_20_method_82_code
def yX6_floor : MethodName := ⟨RX6, "floor", "(JJ)J"⟩
def dkwX6_floor_0 : List UInt8 := [30, 9, 148, 155, 0, 9, 30, 32, 109, 167, 0, 12, 30, 117, 32, 97, 10, 101, 32, 109, 117, 173]
abbrev dktX6_floor_0 : List UInt8 := dkwX6_floor_0 ++ []
theorem dksX6_floor_0 : cX6_floor.data.toList.drop 0 = dktX6_floor_0 := by decide +kernel
theorem dX6_floor_0 : decode cX6_floor 0 = .ok (.lload_n 0, 1) := dk_30 (dk_at dksX6_floor_0 0 rfl rfl)
theorem dX6_floor_1 : decode cX6_floor 1 = .ok (.lconst 0, 1) := dk_9 (dk_at dksX6_floor_0 1 rfl rfl)
theorem dX6_floor_2 : decode cX6_floor 2 = .ok (.lcmp, 1) := dk_148 (dk_at dksX6_floor_0 2 rfl rfl)
theorem dX6_floor_3 : decode cX6_floor 3 = .ok (.ifCond .lt 9, 3) := dk_155 0 9 (dk_at dksX6_floor_0 3 rfl rfl)
theorem dX6_floor_6 : decode cX6_floor 6 = .ok (.lload_n 0, 1) := dk_30 (dk_at dksX6_floor_0 6 rfl rfl)
theorem dX6_floor_7 : decode cX6_floor 7 = .ok (.lload_n 2, 1) := dk_32 (dk_at dksX6_floor_0 7 rfl rfl)
theorem dX6_floor_8 : decode cX6_floor 8 = .ok (.ldiv, 1) := dk_109 (dk_at dksX6_floor_0 8 rfl rfl)
theorem dX6_floor_9 : decode cX6_floor 9 = .ok (.goto 12, 3) := dk_167 0 12 (dk_at dksX6_floor_0 9 rfl rfl)
theorem dX6_floor_12 : decode cX6_floor 12 = .ok (.lload_n 0, 1) := dk_30 (dk_at dksX6_floor_0 12 rfl rfl)
theorem dX6_floor_13 : decode cX6_floor 13 = .ok (.lneg, 1) := dk_117 (dk_at dksX6_floor_0 13 rfl rfl)
theorem dX6_floor_14 : decode cX6_floor 14 = .ok (.lload_n 2, 1) := dk_32 (dk_at dksX6_floor_0 14 rfl rfl)
theorem dX6_floor_15 : decode cX6_floor 15 = .ok (.ladd, 1) := dk_97 (dk_at dksX6_floor_0 15 rfl rfl)
theorem dX6_floor_16 : decode cX6_floor 16 = .ok (.lconst 1, 1) := dk_10 (dk_at dksX6_floor_0 16 rfl rfl)
theorem dX6_floor_17 : decode cX6_floor 17 = .ok (.lsub, 1) := dk_101 (dk_at dksX6_floor_0 17 rfl rfl)
theorem dX6_floor_18 : decode cX6_floor 18 = .ok (.lload_n 2, 1) := dk_32 (dk_at dksX6_floor_0 18 rfl rfl)
theorem dX6_floor_19 : decode cX6_floor 19 = .ok (.ldiv, 1) := dk_109 (dk_at dksX6_floor_0 19 rfl rfl)
theorem dX6_floor_20 : decode cX6_floor 20 = .ok (.lneg, 1) := dk_117 (dk_at dksX6_floor_0 20 rfl rfl)
theorem dX6_floor_21 : decode cX6_floor 21 = .ok (.lreturn, 1) := dk_173 (dk_at dksX6_floor_0 21 rfl rfl)
abbrev cX6_many : ByteArray := prog_20_method_86_code
def yX6_many : MethodName := ⟨RX6, "many", "(III)I"⟩
def dkwX6_many_3 : List UInt8 := [154, 0, 7, 22, 4, 136, 172, 22, 4, 10, 97, 55, 4, 167, 255, 211, 16, 254, 172]
abbrev dktX6_many_3 : List UInt8 := dkwX6_many_3 ++ []
def dkwX6_many_2 : List UInt8 := [156, 0, 39, 42, 27, 22, 4, 182, 1, 213, 153, 0, 29, 42, 27, 22, 4, 182, 1, 216, 29, 133, 148]
abbrev dktX6_many_2 : List UInt8 := dkwX6_many_2 ++ dktX6_many_3
def dkwX6_many_1 : List UInt8 := [27, 28, 133, 182, 1, 213, 154, 0, 5, 2, 172, 28, 133, 55, 4, 22, 4, 28, 133, 20, 1, 219, 97, 148]
abbrev dktX6_many_1 : List UInt8 := dkwX6_many_1 ++ dktX6_many_2
def dkwX6_many_0 : List UInt8 := [42, 3, 181, 0, 119, 42, 27, 182, 1, 148, 153, 0, 23, 29, 3, 16, 99, 184, 0, 166, 153, 0, 13, 42]
abbrev dktX6_many_0 : List UInt8 := dkwX6_many_0 ++ dktX6_many_1
theorem dksX6_many_0 : cX6_many.data.toList.drop 0 = dktX6_many_0 := by decide +kernel
theorem dksX6_many_1 : cX6_many.data.toList.drop 24 = dktX6_many_1 := dk_seg dksX6_many_0 24 rfl rfl
theorem dksX6_many_2 : cX6_many.data.toList.drop 48 = dktX6_many_2 := dk_seg dksX6_many_1 24 rfl rfl
theorem dksX6_many_3 : cX6_many.data.toList.drop 71 = dktX6_many_3 := dk_seg dksX6_many_2 23 rfl rfl
theorem dX6_many_0 : decode cX6_many 0 = .ok (.aload_n 0, 1) := dk_42 (dk_at dksX6_many_0 0 rfl rfl)
theorem dX6_many_1 : decode cX6_many 1 = .ok (.iconst 0, 1) := dk_3 (dk_at dksX6_many_0 1 rfl rfl)
theorem dX6_many_2 : decode cX6_many 2 = .ok (.putfield 119, 3) := dk_181 0 119 (dk_at dksX6_many_0 2 rfl rfl)
theorem dX6_many_5 : decode cX6_many 5 = .ok (.aload_n 0, 1) := dk_42 (dk_at dksX6_many_0 5 rfl rfl)
theorem dX6_many_6 : decode cX6_many 6 = .ok (.iload_n 1, 1) := dk_27 (dk_at dksX6_many_0 6 rfl rfl)
theorem dX6_many_7 : decode cX6_many 7 = .ok (.invokevirtual 404, 3) := dk_182 1 148 (dk_at dksX6_many_0 7 rfl rfl)
theorem dX6_many_10 : decode cX6_many 10 = .ok (.ifCond .eq 23, 3) := dk_153 0 23 (dk_at dksX6_many_0 10 rfl rfl)
theorem dX6_many_13 : decode cX6_many 13 = .ok (.iload_n 3, 1) := dk_29 (dk_at dksX6_many_0 13 rfl rfl)
theorem dX6_many_14 : decode cX6_many 14 = .ok (.iconst 0, 1) := dk_3 (dk_at dksX6_many_0 14 rfl rfl)
theorem dX6_many_15 : decode cX6_many 15 = .ok (.bipush 99, 2) := dk_16 99 (dk_at dksX6_many_0 15 rfl rfl)
theorem dX6_many_17 : decode cX6_many 17 = .ok (.invokestatic 166, 3) := dk_184 0 166 (dk_at dksX6_many_0 17 rfl rfl)
theorem dX6_many_20 : decode cX6_many 20 = .ok (.ifCond .eq 13, 3) := dk_153 0 13 (dk_at dksX6_many_0 20 rfl rfl)
theorem dX6_many_23 : decode cX6_many 23 = .ok (.aload_n 0, 1) := dk_42 (dk_at dksX6_many_0 23 rfl rfl)
theorem dX6_many_24 : decode cX6_many 24 = .ok (.iload_n 1, 1) := dk_27 (dk_at dksX6_many_1 0 rfl rfl)
theorem dX6_many_25 : decode cX6_many 25 = .ok (.iload_n 2, 1) := dk_28 (dk_at dksX6_many_1 1 rfl rfl)
theorem dX6_many_26 : decode cX6_many 26 = .ok (.i2l, 1) := dk_133 (dk_at dksX6_many_1 2 rfl rfl)
theorem dX6_many_27 : decode cX6_many 27 = .ok (.invokevirtual 469, 3) := dk_182 1 213 (dk_at dksX6_many_1 3 rfl rfl)
theorem dX6_many_30 : decode cX6_many 30 = .ok (.ifCond .ne 5, 3) := dk_154 0 5 (dk_at dksX6_many_1 6 rfl rfl)
theorem dX6_many_33 : decode cX6_many 33 = .ok (.iconst (-1), 1) := dk_2 (dk_at dksX6_many_1 9 rfl rfl)
theorem dX6_many_34 : decode cX6_many 34 = .ok (.ireturn, 1) := dk_172 (dk_at dksX6_many_1 10 rfl rfl)
theorem dX6_many_35 : decode cX6_many 35 = .ok (.iload_n 2, 1) := dk_28 (dk_at dksX6_many_1 11 rfl rfl)
theorem dX6_many_36 : decode cX6_many 36 = .ok (.i2l, 1) := dk_133 (dk_at dksX6_many_1 12 rfl rfl)
theorem dX6_many_37 : decode cX6_many 37 = .ok (.lstore 4, 2) := dk_55 4 (dk_at dksX6_many_1 13 rfl rfl)
theorem dX6_many_39 : decode cX6_many 39 = .ok (.lload 4, 2) := dk_22 4 (dk_at dksX6_many_1 15 rfl rfl)
theorem dX6_many_41 : decode cX6_many 41 = .ok (.iload_n 2, 1) := dk_28 (dk_at dksX6_many_1 17 rfl rfl)
theorem dX6_many_42 : decode cX6_many 42 = .ok (.i2l, 1) := dk_133 (dk_at dksX6_many_1 18 rfl rfl)
theorem dX6_many_43 : decode cX6_many 43 = .ok (.ldc2_w 475, 3) := dk_20 1 219 (dk_at dksX6_many_1 19 rfl rfl)
theorem dX6_many_46 : decode cX6_many 46 = .ok (.ladd, 1) := dk_97 (dk_at dksX6_many_1 22 rfl rfl)
theorem dX6_many_47 : decode cX6_many 47 = .ok (.lcmp, 1) := dk_148 (dk_at dksX6_many_1 23 rfl rfl)
theorem dX6_many_48 : decode cX6_many 48 = .ok (.ifCond .ge 39, 3) := dk_156 0 39 (dk_at dksX6_many_2 0 rfl rfl)
theorem dX6_many_51 : decode cX6_many 51 = .ok (.aload_n 0, 1) := dk_42 (dk_at dksX6_many_2 3 rfl rfl)
theorem dX6_many_52 : decode cX6_many 52 = .ok (.iload_n 1, 1) := dk_27 (dk_at dksX6_many_2 4 rfl rfl)
theorem dX6_many_53 : decode cX6_many 53 = .ok (.lload 4, 2) := dk_22 4 (dk_at dksX6_many_2 5 rfl rfl)
theorem dX6_many_55 : decode cX6_many 55 = .ok (.invokevirtual 469, 3) := dk_182 1 213 (dk_at dksX6_many_2 7 rfl rfl)
theorem dX6_many_58 : decode cX6_many 58 = .ok (.ifCond .eq 29, 3) := dk_153 0 29 (dk_at dksX6_many_2 10 rfl rfl)
theorem dX6_many_61 : decode cX6_many 61 = .ok (.aload_n 0, 1) := dk_42 (dk_at dksX6_many_2 13 rfl rfl)
theorem dX6_many_62 : decode cX6_many 62 = .ok (.iload_n 1, 1) := dk_27 (dk_at dksX6_many_2 14 rfl rfl)
theorem dX6_many_63 : decode cX6_many 63 = .ok (.lload 4, 2) := dk_22 4 (dk_at dksX6_many_2 15 rfl rfl)
theorem dX6_many_65 : decode cX6_many 65 = .ok (.invokevirtual 472, 3) := dk_182 1 216 (dk_at dksX6_many_2 17 rfl rfl)
theorem dX6_many_68 : decode cX6_many 68 = .ok (.iload_n 3, 1) := dk_29 (dk_at dksX6_many_2 20 rfl rfl)
theorem dX6_many_69 : decode cX6_many 69 = .ok (.i2l, 1) := dk_133 (dk_at dksX6_many_2 21 rfl rfl)
theorem dX6_many_70 : decode cX6_many 70 = .ok (.lcmp, 1) := dk_148 (dk_at dksX6_many_2 22 rfl rfl)
theorem dX6_many_71 : decode cX6_many 71 = .ok (.ifCond .ne 7, 3) := dk_154 0 7 (dk_at dksX6_many_3 0 rfl rfl)
theorem dX6_many_74 : decode cX6_many 74 = .ok (.lload 4, 2) := dk_22 4 (dk_at dksX6_many_3 3 rfl rfl)
theorem dX6_many_76 : decode cX6_many 76 = .ok (.l2i, 1) := dk_136 (dk_at dksX6_many_3 5 rfl rfl)
theorem dX6_many_77 : decode cX6_many 77 = .ok (.ireturn, 1) := dk_172 (dk_at dksX6_many_3 6 rfl rfl)
theorem dX6_many_78 : decode cX6_many 78 = .ok (.lload 4, 2) := dk_22 4 (dk_at dksX6_many_3 7 rfl rfl)
theorem dX6_many_80 : decode cX6_many 80 = .ok (.lconst 1, 1) := dk_10 (dk_at dksX6_many_3 9 rfl rfl)
theorem dX6_many_81 : decode cX6_many 81 = .ok (.ladd, 1) := dk_97 (dk_at dksX6_many_3 10 rfl rfl)
theorem dX6_many_82 : decode cX6_many 82 = .ok (.lstore 4, 2) := dk_55 4 (dk_at dksX6_many_3 11 rfl rfl)
theorem dX6_many_84 : decode cX6_many 84 = .ok (.goto (-45), 3) := dk_167 255 211 (dk_at dksX6_many_3 13 rfl rfl)
theorem dX6_many_87 : decode cX6_many 87 = .ok (.bipush (-2), 2) := dk_16 254 (dk_at dksX6_many_3 16 rfl rfl)
theorem dX6_many_89 : decode cX6_many 89 = .ok (.ireturn, 1) := dk_172 (dk_at dksX6_many_3 18 rfl rfl)
abbrev cX6_next : ByteArray := prog_20_method_87_code
def yX6_next : MethodName := ⟨RX6, "next", "(JIII)J"⟩
def dkwX6_next_7 : List UInt8 := [97, 55, 6, 167, 255, 150, 20, 1, 200, 173]
abbrev dktX6_next_7 : List UInt8 := dkwX6_next_7 ++ []
def dkwX6_next_6 : List UInt8 := [22, 6, 182, 1, 160, 153, 0, 16, 42, 180, 1, 143, 29, 133, 148, 154, 0, 6, 22, 6, 173, 22, 6, 10]
abbrev dktX6_next_6 : List UInt8 := dkwX6_next_6 ++ dktX6_next_7
def dkwX6_next_5 : List UInt8 := [167, 0, 4, 3, 54, 8, 21, 8, 153, 0, 37, 29, 155, 0, 30, 42, 180, 0, 217, 158, 0, 26, 42, 3]
abbrev dktX6_next_5 : List UInt8 := dkwX6_next_5 ++ dktX6_next_6
def dkwX6_next_4 : List UInt8 := [21, 4, 160, 0, 24, 21, 5, 155, 0, 15, 42, 22, 6, 4, 182, 1, 168, 21, 5, 160, 0, 7, 4]
abbrev dktX6_next_4 : List UInt8 := dkwX6_next_4 ++ dktX6_next_5
def dkwX6_next_3 : List UInt8 := [156, 0, 101, 22, 6, 20, 0, 125, 148, 157, 0, 92, 21, 4, 155, 0, 15, 42, 22, 6, 3, 182, 1, 168]
abbrev dktX6_next_3 : List UInt8 := dkwX6_next_3 ++ dktX6_next_4
def dkwX6_next_2 : List UInt8 := [16, 7, 184, 0, 166, 154, 0, 7, 20, 1, 17, 173, 31, 55, 6, 22, 6, 31, 20, 1, 198, 97, 148]
abbrev dktX6_next_2 : List UInt8 := dkwX6_next_2 ++ dktX6_next_3
def dkwX6_next_1 : List UInt8 := [153, 0, 31, 21, 4, 2, 42, 180, 0, 20, 3, 46, 4, 100, 184, 0, 166, 153, 0, 14, 21, 5, 2]
abbrev dktX6_next_1 : List UInt8 := dkwX6_next_1 ++ dktX6_next_2
def dkwX6_next_0 : List UInt8 := [42, 3, 181, 0, 119, 31, 184, 1, 157, 153, 0, 46, 29, 2, 159, 0, 13, 29, 4, 18, 159, 184, 0, 166]
abbrev dktX6_next_0 : List UInt8 := dkwX6_next_0 ++ dktX6_next_1
theorem dksX6_next_0 : cX6_next.data.toList.drop 0 = dktX6_next_0 := by decide +kernel
theorem dksX6_next_1 : cX6_next.data.toList.drop 24 = dktX6_next_1 := dk_seg dksX6_next_0 24 rfl rfl
theorem dksX6_next_2 : cX6_next.data.toList.drop 47 = dktX6_next_2 := dk_seg dksX6_next_1 23 rfl rfl
theorem dksX6_next_3 : cX6_next.data.toList.drop 70 = dktX6_next_3 := dk_seg dksX6_next_2 23 rfl rfl
theorem dksX6_next_4 : cX6_next.data.toList.drop 94 = dktX6_next_4 := dk_seg dksX6_next_3 24 rfl rfl
theorem dksX6_next_5 : cX6_next.data.toList.drop 117 = dktX6_next_5 := dk_seg dksX6_next_4 23 rfl rfl
theorem dksX6_next_6 : cX6_next.data.toList.drop 141 = dktX6_next_6 := dk_seg dksX6_next_5 24 rfl rfl
theorem dksX6_next_7 : cX6_next.data.toList.drop 165 = dktX6_next_7 := dk_seg dksX6_next_6 24 rfl rfl
theorem dX6_next_0 : decode cX6_next 0 = .ok (.aload_n 0, 1) := dk_42 (dk_at dksX6_next_0 0 rfl rfl)
theorem dX6_next_1 : decode cX6_next 1 = .ok (.iconst 0, 1) := dk_3 (dk_at dksX6_next_0 1 rfl rfl)
theorem dX6_next_2 : decode cX6_next 2 = .ok (.putfield 119, 3) := dk_181 0 119 (dk_at dksX6_next_0 2 rfl rfl)
theorem dX6_next_5 : decode cX6_next 5 = .ok (.lload_n 1, 1) := dk_31 (dk_at dksX6_next_0 5 rfl rfl)
theorem dX6_next_6 : decode cX6_next 6 = .ok (.invokestatic 413, 3) := dk_184 1 157 (dk_at dksX6_next_0 6 rfl rfl)
theorem dX6_next_9 : decode cX6_next 9 = .ok (.ifCond .eq 46, 3) := dk_153 0 46 (dk_at dksX6_next_0 9 rfl rfl)
theorem dX6_next_12 : decode cX6_next 12 = .ok (.iload_n 3, 1) := dk_29 (dk_at dksX6_next_0 12 rfl rfl)
theorem dX6_next_13 : decode cX6_next 13 = .ok (.iconst (-1), 1) := dk_2 (dk_at dksX6_next_0 13 rfl rfl)
theorem dX6_next_14 : decode cX6_next 14 = .ok (.if_icmp .eq 13, 3) := dk_159 0 13 (dk_at dksX6_next_0 14 rfl rfl)
theorem dX6_next_17 : decode cX6_next 17 = .ok (.iload_n 3, 1) := dk_29 (dk_at dksX6_next_0 17 rfl rfl)
theorem dX6_next_18 : decode cX6_next 18 = .ok (.iconst 1, 1) := dk_4 (dk_at dksX6_next_0 18 rfl rfl)
theorem dX6_next_19 : decode cX6_next 19 = .ok (.ldc 159, 2) := dk_18 159 (dk_at dksX6_next_0 19 rfl rfl)
theorem dX6_next_21 : decode cX6_next 21 = .ok (.invokestatic 166, 3) := dk_184 0 166 (dk_at dksX6_next_0 21 rfl rfl)
theorem dX6_next_24 : decode cX6_next 24 = .ok (.ifCond .eq 31, 3) := dk_153 0 31 (dk_at dksX6_next_1 0 rfl rfl)
theorem dX6_next_27 : decode cX6_next 27 = .ok (.iload 4, 2) := dk_21 4 (dk_at dksX6_next_1 3 rfl rfl)
theorem dX6_next_29 : decode cX6_next 29 = .ok (.iconst (-1), 1) := dk_2 (dk_at dksX6_next_1 5 rfl rfl)
theorem dX6_next_30 : decode cX6_next 30 = .ok (.aload_n 0, 1) := dk_42 (dk_at dksX6_next_1 6 rfl rfl)
theorem dX6_next_31 : decode cX6_next 31 = .ok (.getfield 20, 3) := dk_180 0 20 (dk_at dksX6_next_1 7 rfl rfl)
theorem dX6_next_34 : decode cX6_next 34 = .ok (.iconst 0, 1) := dk_3 (dk_at dksX6_next_1 10 rfl rfl)
theorem dX6_next_35 : decode cX6_next 35 = .ok (.iaload, 1) := dk_46 (dk_at dksX6_next_1 11 rfl rfl)
theorem dX6_next_36 : decode cX6_next 36 = .ok (.iconst 1, 1) := dk_4 (dk_at dksX6_next_1 12 rfl rfl)
theorem dX6_next_37 : decode cX6_next 37 = .ok (.isub, 1) := dk_100 (dk_at dksX6_next_1 13 rfl rfl)
theorem dX6_next_38 : decode cX6_next 38 = .ok (.invokestatic 166, 3) := dk_184 0 166 (dk_at dksX6_next_1 14 rfl rfl)
theorem dX6_next_41 : decode cX6_next 41 = .ok (.ifCond .eq 14, 3) := dk_153 0 14 (dk_at dksX6_next_1 17 rfl rfl)
theorem dX6_next_44 : decode cX6_next 44 = .ok (.iload 5, 2) := dk_21 5 (dk_at dksX6_next_1 20 rfl rfl)
theorem dX6_next_46 : decode cX6_next 46 = .ok (.iconst (-1), 1) := dk_2 (dk_at dksX6_next_1 22 rfl rfl)
theorem dX6_next_47 : decode cX6_next 47 = .ok (.bipush 7, 2) := dk_16 7 (dk_at dksX6_next_2 0 rfl rfl)
theorem dX6_next_49 : decode cX6_next 49 = .ok (.invokestatic 166, 3) := dk_184 0 166 (dk_at dksX6_next_2 2 rfl rfl)
theorem dX6_next_52 : decode cX6_next 52 = .ok (.ifCond .ne 7, 3) := dk_154 0 7 (dk_at dksX6_next_2 5 rfl rfl)
theorem dX6_next_55 : decode cX6_next 55 = .ok (.ldc2_w 273, 3) := dk_20 1 17 (dk_at dksX6_next_2 8 rfl rfl)
theorem dX6_next_58 : decode cX6_next 58 = .ok (.lreturn, 1) := dk_173 (dk_at dksX6_next_2 11 rfl rfl)
theorem dX6_next_59 : decode cX6_next 59 = .ok (.lload_n 1, 1) := dk_31 (dk_at dksX6_next_2 12 rfl rfl)
theorem dX6_next_60 : decode cX6_next 60 = .ok (.lstore 6, 2) := dk_55 6 (dk_at dksX6_next_2 13 rfl rfl)
theorem dX6_next_62 : decode cX6_next 62 = .ok (.lload 6, 2) := dk_22 6 (dk_at dksX6_next_2 15 rfl rfl)
theorem dX6_next_64 : decode cX6_next 64 = .ok (.lload_n 1, 1) := dk_31 (dk_at dksX6_next_2 17 rfl rfl)
theorem dX6_next_65 : decode cX6_next 65 = .ok (.ldc2_w 454, 3) := dk_20 1 198 (dk_at dksX6_next_2 18 rfl rfl)
theorem dX6_next_68 : decode cX6_next 68 = .ok (.ladd, 1) := dk_97 (dk_at dksX6_next_2 21 rfl rfl)
theorem dX6_next_69 : decode cX6_next 69 = .ok (.lcmp, 1) := dk_148 (dk_at dksX6_next_2 22 rfl rfl)
theorem dX6_next_70 : decode cX6_next 70 = .ok (.ifCond .ge 101, 3) := dk_156 0 101 (dk_at dksX6_next_3 0 rfl rfl)
theorem dX6_next_73 : decode cX6_next 73 = .ok (.lload 6, 2) := dk_22 6 (dk_at dksX6_next_3 3 rfl rfl)
theorem dX6_next_75 : decode cX6_next 75 = .ok (.ldc2_w 125, 3) := dk_20 0 125 (dk_at dksX6_next_3 5 rfl rfl)
theorem dX6_next_78 : decode cX6_next 78 = .ok (.lcmp, 1) := dk_148 (dk_at dksX6_next_3 8 rfl rfl)
theorem dX6_next_79 : decode cX6_next 79 = .ok (.ifCond .gt 92, 3) := dk_157 0 92 (dk_at dksX6_next_3 9 rfl rfl)
theorem dX6_next_82 : decode cX6_next 82 = .ok (.iload 4, 2) := dk_21 4 (dk_at dksX6_next_3 12 rfl rfl)
theorem dX6_next_84 : decode cX6_next 84 = .ok (.ifCond .lt 15, 3) := dk_155 0 15 (dk_at dksX6_next_3 14 rfl rfl)
theorem dX6_next_87 : decode cX6_next 87 = .ok (.aload_n 0, 1) := dk_42 (dk_at dksX6_next_3 17 rfl rfl)
theorem dX6_next_88 : decode cX6_next 88 = .ok (.lload 6, 2) := dk_22 6 (dk_at dksX6_next_3 18 rfl rfl)
theorem dX6_next_90 : decode cX6_next 90 = .ok (.iconst 0, 1) := dk_3 (dk_at dksX6_next_3 20 rfl rfl)
theorem dX6_next_91 : decode cX6_next 91 = .ok (.invokevirtual 424, 3) := dk_182 1 168 (dk_at dksX6_next_3 21 rfl rfl)
theorem dX6_next_94 : decode cX6_next 94 = .ok (.iload 4, 2) := dk_21 4 (dk_at dksX6_next_4 0 rfl rfl)
theorem dX6_next_96 : decode cX6_next 96 = .ok (.if_icmp .ne 24, 3) := dk_160 0 24 (dk_at dksX6_next_4 2 rfl rfl)
theorem dX6_next_99 : decode cX6_next 99 = .ok (.iload 5, 2) := dk_21 5 (dk_at dksX6_next_4 5 rfl rfl)
theorem dX6_next_101 : decode cX6_next 101 = .ok (.ifCond .lt 15, 3) := dk_155 0 15 (dk_at dksX6_next_4 7 rfl rfl)
theorem dX6_next_104 : decode cX6_next 104 = .ok (.aload_n 0, 1) := dk_42 (dk_at dksX6_next_4 10 rfl rfl)
theorem dX6_next_105 : decode cX6_next 105 = .ok (.lload 6, 2) := dk_22 6 (dk_at dksX6_next_4 11 rfl rfl)
theorem dX6_next_107 : decode cX6_next 107 = .ok (.iconst 1, 1) := dk_4 (dk_at dksX6_next_4 13 rfl rfl)
theorem dX6_next_108 : decode cX6_next 108 = .ok (.invokevirtual 424, 3) := dk_182 1 168 (dk_at dksX6_next_4 14 rfl rfl)
theorem dX6_next_111 : decode cX6_next 111 = .ok (.iload 5, 2) := dk_21 5 (dk_at dksX6_next_4 17 rfl rfl)
theorem dX6_next_113 : decode cX6_next 113 = .ok (.if_icmp .ne 7, 3) := dk_160 0 7 (dk_at dksX6_next_4 19 rfl rfl)
theorem dX6_next_116 : decode cX6_next 116 = .ok (.iconst 1, 1) := dk_4 (dk_at dksX6_next_4 22 rfl rfl)
theorem dX6_next_117 : decode cX6_next 117 = .ok (.goto 4, 3) := dk_167 0 4 (dk_at dksX6_next_5 0 rfl rfl)
theorem dX6_next_120 : decode cX6_next 120 = .ok (.iconst 0, 1) := dk_3 (dk_at dksX6_next_5 3 rfl rfl)
theorem dX6_next_121 : decode cX6_next 121 = .ok (.istore 8, 2) := dk_54 8 (dk_at dksX6_next_5 4 rfl rfl)
theorem dX6_next_123 : decode cX6_next 123 = .ok (.iload 8, 2) := dk_21 8 (dk_at dksX6_next_5 6 rfl rfl)
theorem dX6_next_125 : decode cX6_next 125 = .ok (.ifCond .eq 37, 3) := dk_153 0 37 (dk_at dksX6_next_5 8 rfl rfl)
theorem dX6_next_128 : decode cX6_next 128 = .ok (.iload_n 3, 1) := dk_29 (dk_at dksX6_next_5 11 rfl rfl)
theorem dX6_next_129 : decode cX6_next 129 = .ok (.ifCond .lt 30, 3) := dk_155 0 30 (dk_at dksX6_next_5 12 rfl rfl)
theorem dX6_next_132 : decode cX6_next 132 = .ok (.aload_n 0, 1) := dk_42 (dk_at dksX6_next_5 15 rfl rfl)
theorem dX6_next_133 : decode cX6_next 133 = .ok (.getfield 217, 3) := dk_180 0 217 (dk_at dksX6_next_5 16 rfl rfl)
theorem dX6_next_136 : decode cX6_next 136 = .ok (.ifCond .le 26, 3) := dk_158 0 26 (dk_at dksX6_next_5 19 rfl rfl)
theorem dX6_next_139 : decode cX6_next 139 = .ok (.aload_n 0, 1) := dk_42 (dk_at dksX6_next_5 22 rfl rfl)
theorem dX6_next_140 : decode cX6_next 140 = .ok (.iconst 0, 1) := dk_3 (dk_at dksX6_next_5 23 rfl rfl)
theorem dX6_next_141 : decode cX6_next 141 = .ok (.lload 6, 2) := dk_22 6 (dk_at dksX6_next_6 0 rfl rfl)
theorem dX6_next_143 : decode cX6_next 143 = .ok (.invokevirtual 416, 3) := dk_182 1 160 (dk_at dksX6_next_6 2 rfl rfl)
theorem dX6_next_146 : decode cX6_next 146 = .ok (.ifCond .eq 16, 3) := dk_153 0 16 (dk_at dksX6_next_6 5 rfl rfl)
theorem dX6_next_149 : decode cX6_next 149 = .ok (.aload_n 0, 1) := dk_42 (dk_at dksX6_next_6 8 rfl rfl)
theorem dX6_next_150 : decode cX6_next 150 = .ok (.getfield 399, 3) := dk_180 1 143 (dk_at dksX6_next_6 9 rfl rfl)
theorem dX6_next_153 : decode cX6_next 153 = .ok (.iload_n 3, 1) := dk_29 (dk_at dksX6_next_6 12 rfl rfl)
theorem dX6_next_154 : decode cX6_next 154 = .ok (.i2l, 1) := dk_133 (dk_at dksX6_next_6 13 rfl rfl)
theorem dX6_next_155 : decode cX6_next 155 = .ok (.lcmp, 1) := dk_148 (dk_at dksX6_next_6 14 rfl rfl)
theorem dX6_next_156 : decode cX6_next 156 = .ok (.ifCond .ne 6, 3) := dk_154 0 6 (dk_at dksX6_next_6 15 rfl rfl)
theorem dX6_next_159 : decode cX6_next 159 = .ok (.lload 6, 2) := dk_22 6 (dk_at dksX6_next_6 18 rfl rfl)
theorem dX6_next_161 : decode cX6_next 161 = .ok (.lreturn, 1) := dk_173 (dk_at dksX6_next_6 20 rfl rfl)
theorem dX6_next_162 : decode cX6_next 162 = .ok (.lload 6, 2) := dk_22 6 (dk_at dksX6_next_6 21 rfl rfl)
theorem dX6_next_164 : decode cX6_next 164 = .ok (.lconst 1, 1) := dk_10 (dk_at dksX6_next_6 23 rfl rfl)
theorem dX6_next_165 : decode cX6_next 165 = .ok (.ladd, 1) := dk_97 (dk_at dksX6_next_7 0 rfl rfl)
theorem dX6_next_166 : decode cX6_next 166 = .ok (.lstore 6, 2) := dk_55 6 (dk_at dksX6_next_7 1 rfl rfl)
theorem dX6_next_168 : decode cX6_next 168 = .ok (.goto (-106), 3) := dk_167 255 150 (dk_at dksX6_next_7 3 rfl rfl)
theorem dX6_next_171 : decode cX6_next 171 = .ok (.ldc2_w 456, 3) := dk_20 1 200 (dk_at dksX6_next_7 6 rfl rfl)
theorem dX6_next_174 : decode cX6_next 174 = .ok (.lreturn, 1) := dk_173 (dk_at dksX6_next_7 9 rfl rfl)
abbrev cX6_alike : ByteArray := prog_20_method_88_code
def yX6_alike : MethodName := ⟨RX6, "alike", "(IIJZ)J"⟩
def dkwX6_alike_5 : List UInt8 := [148, 154, 0, 6, 22, 6, 173, 22, 6, 10, 97, 55, 6, 167, 255, 167, 20, 1, 200, 173]
abbrev dktX6_alike_5 : List UInt8 := dkwX6_alike_5 ++ []
def dkwX6_alike_4 : List UInt8 := [153, 0, 31, 42, 180, 1, 143, 22, 10, 148, 154, 0, 21, 21, 5, 153, 0, 13, 42, 180, 1, 140, 22, 8]
abbrev dktX6_alike_4 : List UInt8 := dkwX6_alike_4 ++ dktX6_alike_5
def dkwX6_alike_3 : List UInt8 := [167, 0, 53, 42, 180, 1, 140, 55, 8, 42, 180, 1, 143, 55, 10, 42, 28, 22, 6, 182, 1, 160]
abbrev dktX6_alike_3 : List UInt8 := dkwX6_alike_3 ++ dktX6_alike_4
def dkwX6_alike_2 : List UInt8 := [148, 156, 0, 84, 22, 6, 20, 0, 125, 148, 157, 0, 75, 42, 27, 22, 6, 182, 1, 160, 154, 0, 6]
abbrev dktX6_alike_2 : List UInt8 := dkwX6_alike_2 ++ dktX6_alike_3
def dkwX6_alike_1 : List UInt8 := [159, 0, 10, 33, 184, 1, 157, 154, 0, 7, 20, 1, 17, 173, 33, 55, 6, 22, 6, 33, 20, 1, 198, 97]
abbrev dktX6_alike_1 : List UInt8 := dkwX6_alike_1 ++ dktX6_alike_2
def dkwX6_alike_0 : List UInt8 := [42, 3, 181, 0, 119, 42, 27, 182, 1, 148, 153, 0, 23, 42, 28, 182, 1, 148, 153, 0, 15, 27, 28]
abbrev dktX6_alike_0 : List UInt8 := dkwX6_alike_0 ++ dktX6_alike_1
theorem dksX6_alike_0 : cX6_alike.data.toList.drop 0 = dktX6_alike_0 := by decide +kernel
theorem dksX6_alike_1 : cX6_alike.data.toList.drop 23 = dktX6_alike_1 := dk_seg dksX6_alike_0 23 rfl rfl
theorem dksX6_alike_2 : cX6_alike.data.toList.drop 47 = dktX6_alike_2 := dk_seg dksX6_alike_1 24 rfl rfl
theorem dksX6_alike_3 : cX6_alike.data.toList.drop 70 = dktX6_alike_3 := dk_seg dksX6_alike_2 23 rfl rfl
theorem dksX6_alike_4 : cX6_alike.data.toList.drop 92 = dktX6_alike_4 := dk_seg dksX6_alike_3 22 rfl rfl
theorem dksX6_alike_5 : cX6_alike.data.toList.drop 116 = dktX6_alike_5 := dk_seg dksX6_alike_4 24 rfl rfl
theorem dX6_alike_0 : decode cX6_alike 0 = .ok (.aload_n 0, 1) := dk_42 (dk_at dksX6_alike_0 0 rfl rfl)
theorem dX6_alike_1 : decode cX6_alike 1 = .ok (.iconst 0, 1) := dk_3 (dk_at dksX6_alike_0 1 rfl rfl)
theorem dX6_alike_2 : decode cX6_alike 2 = .ok (.putfield 119, 3) := dk_181 0 119 (dk_at dksX6_alike_0 2 rfl rfl)
theorem dX6_alike_5 : decode cX6_alike 5 = .ok (.aload_n 0, 1) := dk_42 (dk_at dksX6_alike_0 5 rfl rfl)
theorem dX6_alike_6 : decode cX6_alike 6 = .ok (.iload_n 1, 1) := dk_27 (dk_at dksX6_alike_0 6 rfl rfl)
theorem dX6_alike_7 : decode cX6_alike 7 = .ok (.invokevirtual 404, 3) := dk_182 1 148 (dk_at dksX6_alike_0 7 rfl rfl)
theorem dX6_alike_10 : decode cX6_alike 10 = .ok (.ifCond .eq 23, 3) := dk_153 0 23 (dk_at dksX6_alike_0 10 rfl rfl)
theorem dX6_alike_13 : decode cX6_alike 13 = .ok (.aload_n 0, 1) := dk_42 (dk_at dksX6_alike_0 13 rfl rfl)
theorem dX6_alike_14 : decode cX6_alike 14 = .ok (.iload_n 2, 1) := dk_28 (dk_at dksX6_alike_0 14 rfl rfl)
theorem dX6_alike_15 : decode cX6_alike 15 = .ok (.invokevirtual 404, 3) := dk_182 1 148 (dk_at dksX6_alike_0 15 rfl rfl)
theorem dX6_alike_18 : decode cX6_alike 18 = .ok (.ifCond .eq 15, 3) := dk_153 0 15 (dk_at dksX6_alike_0 18 rfl rfl)
theorem dX6_alike_21 : decode cX6_alike 21 = .ok (.iload_n 1, 1) := dk_27 (dk_at dksX6_alike_0 21 rfl rfl)
theorem dX6_alike_22 : decode cX6_alike 22 = .ok (.iload_n 2, 1) := dk_28 (dk_at dksX6_alike_0 22 rfl rfl)
theorem dX6_alike_23 : decode cX6_alike 23 = .ok (.if_icmp .eq 10, 3) := dk_159 0 10 (dk_at dksX6_alike_1 0 rfl rfl)
theorem dX6_alike_26 : decode cX6_alike 26 = .ok (.lload_n 3, 1) := dk_33 (dk_at dksX6_alike_1 3 rfl rfl)
theorem dX6_alike_27 : decode cX6_alike 27 = .ok (.invokestatic 413, 3) := dk_184 1 157 (dk_at dksX6_alike_1 4 rfl rfl)
theorem dX6_alike_30 : decode cX6_alike 30 = .ok (.ifCond .ne 7, 3) := dk_154 0 7 (dk_at dksX6_alike_1 7 rfl rfl)
theorem dX6_alike_33 : decode cX6_alike 33 = .ok (.ldc2_w 273, 3) := dk_20 1 17 (dk_at dksX6_alike_1 10 rfl rfl)
theorem dX6_alike_36 : decode cX6_alike 36 = .ok (.lreturn, 1) := dk_173 (dk_at dksX6_alike_1 13 rfl rfl)
theorem dX6_alike_37 : decode cX6_alike 37 = .ok (.lload_n 3, 1) := dk_33 (dk_at dksX6_alike_1 14 rfl rfl)
theorem dX6_alike_38 : decode cX6_alike 38 = .ok (.lstore 6, 2) := dk_55 6 (dk_at dksX6_alike_1 15 rfl rfl)
theorem dX6_alike_40 : decode cX6_alike 40 = .ok (.lload 6, 2) := dk_22 6 (dk_at dksX6_alike_1 17 rfl rfl)
theorem dX6_alike_42 : decode cX6_alike 42 = .ok (.lload_n 3, 1) := dk_33 (dk_at dksX6_alike_1 19 rfl rfl)
theorem dX6_alike_43 : decode cX6_alike 43 = .ok (.ldc2_w 454, 3) := dk_20 1 198 (dk_at dksX6_alike_1 20 rfl rfl)
theorem dX6_alike_46 : decode cX6_alike 46 = .ok (.ladd, 1) := dk_97 (dk_at dksX6_alike_1 23 rfl rfl)
theorem dX6_alike_47 : decode cX6_alike 47 = .ok (.lcmp, 1) := dk_148 (dk_at dksX6_alike_2 0 rfl rfl)
theorem dX6_alike_48 : decode cX6_alike 48 = .ok (.ifCond .ge 84, 3) := dk_156 0 84 (dk_at dksX6_alike_2 1 rfl rfl)
theorem dX6_alike_51 : decode cX6_alike 51 = .ok (.lload 6, 2) := dk_22 6 (dk_at dksX6_alike_2 4 rfl rfl)
theorem dX6_alike_53 : decode cX6_alike 53 = .ok (.ldc2_w 125, 3) := dk_20 0 125 (dk_at dksX6_alike_2 6 rfl rfl)
theorem dX6_alike_56 : decode cX6_alike 56 = .ok (.lcmp, 1) := dk_148 (dk_at dksX6_alike_2 9 rfl rfl)
theorem dX6_alike_57 : decode cX6_alike 57 = .ok (.ifCond .gt 75, 3) := dk_157 0 75 (dk_at dksX6_alike_2 10 rfl rfl)
theorem dX6_alike_60 : decode cX6_alike 60 = .ok (.aload_n 0, 1) := dk_42 (dk_at dksX6_alike_2 13 rfl rfl)
theorem dX6_alike_61 : decode cX6_alike 61 = .ok (.iload_n 1, 1) := dk_27 (dk_at dksX6_alike_2 14 rfl rfl)
theorem dX6_alike_62 : decode cX6_alike 62 = .ok (.lload 6, 2) := dk_22 6 (dk_at dksX6_alike_2 15 rfl rfl)
theorem dX6_alike_64 : decode cX6_alike 64 = .ok (.invokevirtual 416, 3) := dk_182 1 160 (dk_at dksX6_alike_2 17 rfl rfl)
theorem dX6_alike_67 : decode cX6_alike 67 = .ok (.ifCond .ne 6, 3) := dk_154 0 6 (dk_at dksX6_alike_2 20 rfl rfl)
theorem dX6_alike_70 : decode cX6_alike 70 = .ok (.goto 53, 3) := dk_167 0 53 (dk_at dksX6_alike_3 0 rfl rfl)
theorem dX6_alike_73 : decode cX6_alike 73 = .ok (.aload_n 0, 1) := dk_42 (dk_at dksX6_alike_3 3 rfl rfl)
theorem dX6_alike_74 : decode cX6_alike 74 = .ok (.getfield 396, 3) := dk_180 1 140 (dk_at dksX6_alike_3 4 rfl rfl)
theorem dX6_alike_77 : decode cX6_alike 77 = .ok (.lstore 8, 2) := dk_55 8 (dk_at dksX6_alike_3 7 rfl rfl)
theorem dX6_alike_79 : decode cX6_alike 79 = .ok (.aload_n 0, 1) := dk_42 (dk_at dksX6_alike_3 9 rfl rfl)
theorem dX6_alike_80 : decode cX6_alike 80 = .ok (.getfield 399, 3) := dk_180 1 143 (dk_at dksX6_alike_3 10 rfl rfl)
theorem dX6_alike_83 : decode cX6_alike 83 = .ok (.lstore 10, 2) := dk_55 10 (dk_at dksX6_alike_3 13 rfl rfl)
theorem dX6_alike_85 : decode cX6_alike 85 = .ok (.aload_n 0, 1) := dk_42 (dk_at dksX6_alike_3 15 rfl rfl)
theorem dX6_alike_86 : decode cX6_alike 86 = .ok (.iload_n 2, 1) := dk_28 (dk_at dksX6_alike_3 16 rfl rfl)
theorem dX6_alike_87 : decode cX6_alike 87 = .ok (.lload 6, 2) := dk_22 6 (dk_at dksX6_alike_3 17 rfl rfl)
theorem dX6_alike_89 : decode cX6_alike 89 = .ok (.invokevirtual 416, 3) := dk_182 1 160 (dk_at dksX6_alike_3 19 rfl rfl)
theorem dX6_alike_92 : decode cX6_alike 92 = .ok (.ifCond .eq 31, 3) := dk_153 0 31 (dk_at dksX6_alike_4 0 rfl rfl)
theorem dX6_alike_95 : decode cX6_alike 95 = .ok (.aload_n 0, 1) := dk_42 (dk_at dksX6_alike_4 3 rfl rfl)
theorem dX6_alike_96 : decode cX6_alike 96 = .ok (.getfield 399, 3) := dk_180 1 143 (dk_at dksX6_alike_4 4 rfl rfl)
theorem dX6_alike_99 : decode cX6_alike 99 = .ok (.lload 10, 2) := dk_22 10 (dk_at dksX6_alike_4 7 rfl rfl)
theorem dX6_alike_101 : decode cX6_alike 101 = .ok (.lcmp, 1) := dk_148 (dk_at dksX6_alike_4 9 rfl rfl)
theorem dX6_alike_102 : decode cX6_alike 102 = .ok (.ifCond .ne 21, 3) := dk_154 0 21 (dk_at dksX6_alike_4 10 rfl rfl)
theorem dX6_alike_105 : decode cX6_alike 105 = .ok (.iload 5, 2) := dk_21 5 (dk_at dksX6_alike_4 13 rfl rfl)
theorem dX6_alike_107 : decode cX6_alike 107 = .ok (.ifCond .eq 13, 3) := dk_153 0 13 (dk_at dksX6_alike_4 15 rfl rfl)
theorem dX6_alike_110 : decode cX6_alike 110 = .ok (.aload_n 0, 1) := dk_42 (dk_at dksX6_alike_4 18 rfl rfl)
theorem dX6_alike_111 : decode cX6_alike 111 = .ok (.getfield 396, 3) := dk_180 1 140 (dk_at dksX6_alike_4 19 rfl rfl)
theorem dX6_alike_114 : decode cX6_alike 114 = .ok (.lload 8, 2) := dk_22 8 (dk_at dksX6_alike_4 22 rfl rfl)
theorem dX6_alike_116 : decode cX6_alike 116 = .ok (.lcmp, 1) := dk_148 (dk_at dksX6_alike_5 0 rfl rfl)
theorem dX6_alike_117 : decode cX6_alike 117 = .ok (.ifCond .ne 6, 3) := dk_154 0 6 (dk_at dksX6_alike_5 1 rfl rfl)
theorem dX6_alike_120 : decode cX6_alike 120 = .ok (.lload 6, 2) := dk_22 6 (dk_at dksX6_alike_5 4 rfl rfl)
theorem dX6_alike_122 : decode cX6_alike 122 = .ok (.lreturn, 1) := dk_173 (dk_at dksX6_alike_5 6 rfl rfl)
theorem dX6_alike_123 : decode cX6_alike 123 = .ok (.lload 6, 2) := dk_22 6 (dk_at dksX6_alike_5 7 rfl rfl)
theorem dX6_alike_125 : decode cX6_alike 125 = .ok (.lconst 1, 1) := dk_10 (dk_at dksX6_alike_5 9 rfl rfl)
theorem dX6_alike_126 : decode cX6_alike 126 = .ok (.ladd, 1) := dk_97 (dk_at dksX6_alike_5 10 rfl rfl)
theorem dX6_alike_127 : decode cX6_alike 127 = .ok (.lstore 6, 2) := dk_55 6 (dk_at dksX6_alike_5 11 rfl rfl)
theorem dX6_alike_129 : decode cX6_alike 129 = .ok (.goto (-89), 3) := dk_167 255 167 (dk_at dksX6_alike_5 13 rfl rfl)
theorem dX6_alike_132 : decode cX6_alike 132 = .ok (.ldc2_w 456, 3) := dk_20 1 200 (dk_at dksX6_alike_5 16 rfl rfl)
theorem dX6_alike_135 : decode cX6_alike 135 = .ok (.lreturn, 1) := dk_173 (dk_at dksX6_alike_5 19 rfl rfl)
abbrev cX6_deed : ByteArray := prog_20_method_92_code
def yX6_deed : MethodName := ⟨RX6, "deed", "(III)J"⟩
def dkwX6_deed_5 : List UInt8 := [173]
abbrev dktX6_deed_5 : List UInt8 := dkwX6_deed_5 ++ []
def dkwX6_deed_4 : List UInt8 := [5, 96, 46, 133, 42, 28, 22, 4, 182, 1, 228, 42, 28, 42, 180, 0, 51, 27, 47, 182, 1, 228, 101, 105]
abbrev dktX6_deed_4 : List UInt8 := dkwX6_deed_4 ++ dktX6_deed_5
def dkwX6_deed_3 : List UInt8 := [55, 4, 22, 4, 9, 148, 155, 0, 8, 29, 4, 160, 0, 6, 22, 4, 173, 42, 180, 0, 54, 6, 27, 104]
abbrev dktX6_deed_3 : List UInt8 := dkwX6_deed_3 ++ dktX6_deed_4
def dkwX6_deed_2 : List UInt8 := [154, 0, 7, 20, 1, 17, 173, 29, 154, 0, 10, 42, 180, 0, 51, 27, 47, 173, 42, 27, 28, 182, 1, 224]
abbrev dktX6_deed_2 : List UInt8 := dkwX6_deed_2 ++ dktX6_deed_3
def dkwX6_deed_1 : List UInt8 := [153, 0, 26, 29, 3, 5, 184, 0, 166, 153, 0, 17, 42, 28, 42, 180, 0, 51, 27, 47, 182, 1, 160]
abbrev dktX6_deed_1 : List UInt8 := dkwX6_deed_1 ++ dktX6_deed_2
def dkwX6_deed_0 : List UInt8 := [42, 3, 181, 0, 119, 27, 155, 0, 42, 27, 42, 180, 0, 226, 162, 0, 34, 42, 28, 182, 1, 148]
abbrev dktX6_deed_0 : List UInt8 := dkwX6_deed_0 ++ dktX6_deed_1
theorem dksX6_deed_0 : cX6_deed.data.toList.drop 0 = dktX6_deed_0 := by decide +kernel
theorem dksX6_deed_1 : cX6_deed.data.toList.drop 22 = dktX6_deed_1 := dk_seg dksX6_deed_0 22 rfl rfl
theorem dksX6_deed_2 : cX6_deed.data.toList.drop 45 = dktX6_deed_2 := dk_seg dksX6_deed_1 23 rfl rfl
theorem dksX6_deed_3 : cX6_deed.data.toList.drop 69 = dktX6_deed_3 := dk_seg dksX6_deed_2 24 rfl rfl
theorem dksX6_deed_4 : cX6_deed.data.toList.drop 93 = dktX6_deed_4 := dk_seg dksX6_deed_3 24 rfl rfl
theorem dksX6_deed_5 : cX6_deed.data.toList.drop 117 = dktX6_deed_5 := dk_seg dksX6_deed_4 24 rfl rfl
theorem dX6_deed_0 : decode cX6_deed 0 = .ok (.aload_n 0, 1) := dk_42 (dk_at dksX6_deed_0 0 rfl rfl)
theorem dX6_deed_1 : decode cX6_deed 1 = .ok (.iconst 0, 1) := dk_3 (dk_at dksX6_deed_0 1 rfl rfl)
theorem dX6_deed_2 : decode cX6_deed 2 = .ok (.putfield 119, 3) := dk_181 0 119 (dk_at dksX6_deed_0 2 rfl rfl)
theorem dX6_deed_5 : decode cX6_deed 5 = .ok (.iload_n 1, 1) := dk_27 (dk_at dksX6_deed_0 5 rfl rfl)
theorem dX6_deed_6 : decode cX6_deed 6 = .ok (.ifCond .lt 42, 3) := dk_155 0 42 (dk_at dksX6_deed_0 6 rfl rfl)
theorem dX6_deed_9 : decode cX6_deed 9 = .ok (.iload_n 1, 1) := dk_27 (dk_at dksX6_deed_0 9 rfl rfl)
theorem dX6_deed_10 : decode cX6_deed 10 = .ok (.aload_n 0, 1) := dk_42 (dk_at dksX6_deed_0 10 rfl rfl)
theorem dX6_deed_11 : decode cX6_deed 11 = .ok (.getfield 226, 3) := dk_180 0 226 (dk_at dksX6_deed_0 11 rfl rfl)
theorem dX6_deed_14 : decode cX6_deed 14 = .ok (.if_icmp .ge 34, 3) := dk_162 0 34 (dk_at dksX6_deed_0 14 rfl rfl)
theorem dX6_deed_17 : decode cX6_deed 17 = .ok (.aload_n 0, 1) := dk_42 (dk_at dksX6_deed_0 17 rfl rfl)
theorem dX6_deed_18 : decode cX6_deed 18 = .ok (.iload_n 2, 1) := dk_28 (dk_at dksX6_deed_0 18 rfl rfl)
theorem dX6_deed_19 : decode cX6_deed 19 = .ok (.invokevirtual 404, 3) := dk_182 1 148 (dk_at dksX6_deed_0 19 rfl rfl)
theorem dX6_deed_22 : decode cX6_deed 22 = .ok (.ifCond .eq 26, 3) := dk_153 0 26 (dk_at dksX6_deed_1 0 rfl rfl)
theorem dX6_deed_25 : decode cX6_deed 25 = .ok (.iload_n 3, 1) := dk_29 (dk_at dksX6_deed_1 3 rfl rfl)
theorem dX6_deed_26 : decode cX6_deed 26 = .ok (.iconst 0, 1) := dk_3 (dk_at dksX6_deed_1 4 rfl rfl)
theorem dX6_deed_27 : decode cX6_deed 27 = .ok (.iconst 2, 1) := dk_5 (dk_at dksX6_deed_1 5 rfl rfl)
theorem dX6_deed_28 : decode cX6_deed 28 = .ok (.invokestatic 166, 3) := dk_184 0 166 (dk_at dksX6_deed_1 6 rfl rfl)
theorem dX6_deed_31 : decode cX6_deed 31 = .ok (.ifCond .eq 17, 3) := dk_153 0 17 (dk_at dksX6_deed_1 9 rfl rfl)
theorem dX6_deed_34 : decode cX6_deed 34 = .ok (.aload_n 0, 1) := dk_42 (dk_at dksX6_deed_1 12 rfl rfl)
theorem dX6_deed_35 : decode cX6_deed 35 = .ok (.iload_n 2, 1) := dk_28 (dk_at dksX6_deed_1 13 rfl rfl)
theorem dX6_deed_36 : decode cX6_deed 36 = .ok (.aload_n 0, 1) := dk_42 (dk_at dksX6_deed_1 14 rfl rfl)
theorem dX6_deed_37 : decode cX6_deed 37 = .ok (.getfield 51, 3) := dk_180 0 51 (dk_at dksX6_deed_1 15 rfl rfl)
theorem dX6_deed_40 : decode cX6_deed 40 = .ok (.iload_n 1, 1) := dk_27 (dk_at dksX6_deed_1 18 rfl rfl)
theorem dX6_deed_41 : decode cX6_deed 41 = .ok (.laload, 1) := dk_47 (dk_at dksX6_deed_1 19 rfl rfl)
theorem dX6_deed_42 : decode cX6_deed 42 = .ok (.invokevirtual 416, 3) := dk_182 1 160 (dk_at dksX6_deed_1 20 rfl rfl)
theorem dX6_deed_45 : decode cX6_deed 45 = .ok (.ifCond .ne 7, 3) := dk_154 0 7 (dk_at dksX6_deed_2 0 rfl rfl)
theorem dX6_deed_48 : decode cX6_deed 48 = .ok (.ldc2_w 273, 3) := dk_20 1 17 (dk_at dksX6_deed_2 3 rfl rfl)
theorem dX6_deed_51 : decode cX6_deed 51 = .ok (.lreturn, 1) := dk_173 (dk_at dksX6_deed_2 6 rfl rfl)
theorem dX6_deed_52 : decode cX6_deed 52 = .ok (.iload_n 3, 1) := dk_29 (dk_at dksX6_deed_2 7 rfl rfl)
theorem dX6_deed_53 : decode cX6_deed 53 = .ok (.ifCond .ne 10, 3) := dk_154 0 10 (dk_at dksX6_deed_2 8 rfl rfl)
theorem dX6_deed_56 : decode cX6_deed 56 = .ok (.aload_n 0, 1) := dk_42 (dk_at dksX6_deed_2 11 rfl rfl)
theorem dX6_deed_57 : decode cX6_deed 57 = .ok (.getfield 51, 3) := dk_180 0 51 (dk_at dksX6_deed_2 12 rfl rfl)
theorem dX6_deed_60 : decode cX6_deed 60 = .ok (.iload_n 1, 1) := dk_27 (dk_at dksX6_deed_2 15 rfl rfl)
theorem dX6_deed_61 : decode cX6_deed 61 = .ok (.laload, 1) := dk_47 (dk_at dksX6_deed_2 16 rfl rfl)
theorem dX6_deed_62 : decode cX6_deed 62 = .ok (.lreturn, 1) := dk_173 (dk_at dksX6_deed_2 17 rfl rfl)
theorem dX6_deed_63 : decode cX6_deed 63 = .ok (.aload_n 0, 1) := dk_42 (dk_at dksX6_deed_2 18 rfl rfl)
theorem dX6_deed_64 : decode cX6_deed 64 = .ok (.iload_n 1, 1) := dk_27 (dk_at dksX6_deed_2 19 rfl rfl)
theorem dX6_deed_65 : decode cX6_deed 65 = .ok (.iload_n 2, 1) := dk_28 (dk_at dksX6_deed_2 20 rfl rfl)
theorem dX6_deed_66 : decode cX6_deed 66 = .ok (.invokevirtual 480, 3) := dk_182 1 224 (dk_at dksX6_deed_2 21 rfl rfl)
theorem dX6_deed_69 : decode cX6_deed 69 = .ok (.lstore 4, 2) := dk_55 4 (dk_at dksX6_deed_3 0 rfl rfl)
theorem dX6_deed_71 : decode cX6_deed 71 = .ok (.lload 4, 2) := dk_22 4 (dk_at dksX6_deed_3 2 rfl rfl)
theorem dX6_deed_73 : decode cX6_deed 73 = .ok (.lconst 0, 1) := dk_9 (dk_at dksX6_deed_3 4 rfl rfl)
theorem dX6_deed_74 : decode cX6_deed 74 = .ok (.lcmp, 1) := dk_148 (dk_at dksX6_deed_3 5 rfl rfl)
theorem dX6_deed_75 : decode cX6_deed 75 = .ok (.ifCond .lt 8, 3) := dk_155 0 8 (dk_at dksX6_deed_3 6 rfl rfl)
theorem dX6_deed_78 : decode cX6_deed 78 = .ok (.iload_n 3, 1) := dk_29 (dk_at dksX6_deed_3 9 rfl rfl)
theorem dX6_deed_79 : decode cX6_deed 79 = .ok (.iconst 1, 1) := dk_4 (dk_at dksX6_deed_3 10 rfl rfl)
theorem dX6_deed_80 : decode cX6_deed 80 = .ok (.if_icmp .ne 6, 3) := dk_160 0 6 (dk_at dksX6_deed_3 11 rfl rfl)
theorem dX6_deed_83 : decode cX6_deed 83 = .ok (.lload 4, 2) := dk_22 4 (dk_at dksX6_deed_3 14 rfl rfl)
theorem dX6_deed_85 : decode cX6_deed 85 = .ok (.lreturn, 1) := dk_173 (dk_at dksX6_deed_3 16 rfl rfl)
theorem dX6_deed_86 : decode cX6_deed 86 = .ok (.aload_n 0, 1) := dk_42 (dk_at dksX6_deed_3 17 rfl rfl)
theorem dX6_deed_87 : decode cX6_deed 87 = .ok (.getfield 54, 3) := dk_180 0 54 (dk_at dksX6_deed_3 18 rfl rfl)
theorem dX6_deed_90 : decode cX6_deed 90 = .ok (.iconst 3, 1) := dk_6 (dk_at dksX6_deed_3 21 rfl rfl)
theorem dX6_deed_91 : decode cX6_deed 91 = .ok (.iload_n 1, 1) := dk_27 (dk_at dksX6_deed_3 22 rfl rfl)
theorem dX6_deed_92 : decode cX6_deed 92 = .ok (.imul, 1) := dk_104 (dk_at dksX6_deed_3 23 rfl rfl)
theorem dX6_deed_93 : decode cX6_deed 93 = .ok (.iconst 2, 1) := dk_5 (dk_at dksX6_deed_4 0 rfl rfl)
theorem dX6_deed_94 : decode cX6_deed 94 = .ok (.iadd, 1) := dk_96 (dk_at dksX6_deed_4 1 rfl rfl)
theorem dX6_deed_95 : decode cX6_deed 95 = .ok (.iaload, 1) := dk_46 (dk_at dksX6_deed_4 2 rfl rfl)
theorem dX6_deed_96 : decode cX6_deed 96 = .ok (.i2l, 1) := dk_133 (dk_at dksX6_deed_4 3 rfl rfl)
theorem dX6_deed_97 : decode cX6_deed 97 = .ok (.aload_n 0, 1) := dk_42 (dk_at dksX6_deed_4 4 rfl rfl)
theorem dX6_deed_98 : decode cX6_deed 98 = .ok (.iload_n 2, 1) := dk_28 (dk_at dksX6_deed_4 5 rfl rfl)
theorem dX6_deed_99 : decode cX6_deed 99 = .ok (.lload 4, 2) := dk_22 4 (dk_at dksX6_deed_4 6 rfl rfl)
theorem dX6_deed_101 : decode cX6_deed 101 = .ok (.invokevirtual 484, 3) := dk_182 1 228 (dk_at dksX6_deed_4 8 rfl rfl)
theorem dX6_deed_104 : decode cX6_deed 104 = .ok (.aload_n 0, 1) := dk_42 (dk_at dksX6_deed_4 11 rfl rfl)
theorem dX6_deed_105 : decode cX6_deed 105 = .ok (.iload_n 2, 1) := dk_28 (dk_at dksX6_deed_4 12 rfl rfl)
theorem dX6_deed_106 : decode cX6_deed 106 = .ok (.aload_n 0, 1) := dk_42 (dk_at dksX6_deed_4 13 rfl rfl)
theorem dX6_deed_107 : decode cX6_deed 107 = .ok (.getfield 51, 3) := dk_180 0 51 (dk_at dksX6_deed_4 14 rfl rfl)
theorem dX6_deed_110 : decode cX6_deed 110 = .ok (.iload_n 1, 1) := dk_27 (dk_at dksX6_deed_4 17 rfl rfl)
theorem dX6_deed_111 : decode cX6_deed 111 = .ok (.laload, 1) := dk_47 (dk_at dksX6_deed_4 18 rfl rfl)
theorem dX6_deed_112 : decode cX6_deed 112 = .ok (.invokevirtual 484, 3) := dk_182 1 228 (dk_at dksX6_deed_4 19 rfl rfl)
theorem dX6_deed_115 : decode cX6_deed 115 = .ok (.lsub, 1) := dk_101 (dk_at dksX6_deed_4 22 rfl rfl)
theorem dX6_deed_116 : decode cX6_deed 116 = .ok (.lmul, 1) := dk_105 (dk_at dksX6_deed_4 23 rfl rfl)
theorem dX6_deed_117 : decode cX6_deed 117 = .ok (.lreturn, 1) := dk_173 (dk_at dksX6_deed_5 0 rfl rfl)
abbrev cX6_dueOf : ByteArray := prog_20_method_91_code
def yX6_dueOf : MethodName := ⟨RX6, "dueOf", "(II)J"⟩
def dkwX6_dueOf_4 : List UInt8 := [173]
abbrev dktX6_dueOf_4 : List UInt8 := dkwX6_dueOf_4 ++ []
def dkwX6_dueOf_3 : List UInt8 := [133, 97, 20, 0, 125, 148, 158, 0, 9, 20, 1, 17, 167, 0, 12, 42, 180, 0, 51, 27, 47, 29, 133, 97]
abbrev dktX6_dueOf_3 : List UInt8 := dkwX6_dueOf_3 ++ dktX6_dueOf_4
def dkwX6_dueOf_2 : List UInt8 := [160, 0, 17, 42, 29, 42, 180, 0, 51, 27, 47, 10, 97, 182, 1, 202, 173, 42, 180, 0, 51, 27, 47, 29]
abbrev dktX6_dueOf_2 : List UInt8 := dkwX6_dueOf_2 ++ dktX6_dueOf_3
def dkwX6_dueOf_1 : List UInt8 := [42, 180, 1, 140, 29, 133, 97, 42, 180, 1, 143, 182, 1, 221, 173, 42, 180, 0, 54, 6, 27, 104, 46, 5]
abbrev dktX6_dueOf_1 : List UInt8 := dkwX6_dueOf_1 ++ dktX6_dueOf_2
def dkwX6_dueOf_0 : List UInt8 := [42, 180, 0, 54, 6, 27, 104, 4, 96, 46, 62, 42, 180, 0, 54, 6, 27, 104, 46, 154, 0, 20, 42, 28]
abbrev dktX6_dueOf_0 : List UInt8 := dkwX6_dueOf_0 ++ dktX6_dueOf_1
theorem dksX6_dueOf_0 : cX6_dueOf.data.toList.drop 0 = dktX6_dueOf_0 := by decide +kernel
theorem dksX6_dueOf_1 : cX6_dueOf.data.toList.drop 24 = dktX6_dueOf_1 := dk_seg dksX6_dueOf_0 24 rfl rfl
theorem dksX6_dueOf_2 : cX6_dueOf.data.toList.drop 48 = dktX6_dueOf_2 := dk_seg dksX6_dueOf_1 24 rfl rfl
theorem dksX6_dueOf_3 : cX6_dueOf.data.toList.drop 72 = dktX6_dueOf_3 := dk_seg dksX6_dueOf_2 24 rfl rfl
theorem dksX6_dueOf_4 : cX6_dueOf.data.toList.drop 96 = dktX6_dueOf_4 := dk_seg dksX6_dueOf_3 24 rfl rfl
theorem dX6_dueOf_0 : decode cX6_dueOf 0 = .ok (.aload_n 0, 1) := dk_42 (dk_at dksX6_dueOf_0 0 rfl rfl)
theorem dX6_dueOf_1 : decode cX6_dueOf 1 = .ok (.getfield 54, 3) := dk_180 0 54 (dk_at dksX6_dueOf_0 1 rfl rfl)
theorem dX6_dueOf_4 : decode cX6_dueOf 4 = .ok (.iconst 3, 1) := dk_6 (dk_at dksX6_dueOf_0 4 rfl rfl)
theorem dX6_dueOf_5 : decode cX6_dueOf 5 = .ok (.iload_n 1, 1) := dk_27 (dk_at dksX6_dueOf_0 5 rfl rfl)
theorem dX6_dueOf_6 : decode cX6_dueOf 6 = .ok (.imul, 1) := dk_104 (dk_at dksX6_dueOf_0 6 rfl rfl)
theorem dX6_dueOf_7 : decode cX6_dueOf 7 = .ok (.iconst 1, 1) := dk_4 (dk_at dksX6_dueOf_0 7 rfl rfl)
theorem dX6_dueOf_8 : decode cX6_dueOf 8 = .ok (.iadd, 1) := dk_96 (dk_at dksX6_dueOf_0 8 rfl rfl)
theorem dX6_dueOf_9 : decode cX6_dueOf 9 = .ok (.iaload, 1) := dk_46 (dk_at dksX6_dueOf_0 9 rfl rfl)
theorem dX6_dueOf_10 : decode cX6_dueOf 10 = .ok (.istore_n 3, 1) := dk_62 (dk_at dksX6_dueOf_0 10 rfl rfl)
theorem dX6_dueOf_11 : decode cX6_dueOf 11 = .ok (.aload_n 0, 1) := dk_42 (dk_at dksX6_dueOf_0 11 rfl rfl)
theorem dX6_dueOf_12 : decode cX6_dueOf 12 = .ok (.getfield 54, 3) := dk_180 0 54 (dk_at dksX6_dueOf_0 12 rfl rfl)
theorem dX6_dueOf_15 : decode cX6_dueOf 15 = .ok (.iconst 3, 1) := dk_6 (dk_at dksX6_dueOf_0 15 rfl rfl)
theorem dX6_dueOf_16 : decode cX6_dueOf 16 = .ok (.iload_n 1, 1) := dk_27 (dk_at dksX6_dueOf_0 16 rfl rfl)
theorem dX6_dueOf_17 : decode cX6_dueOf 17 = .ok (.imul, 1) := dk_104 (dk_at dksX6_dueOf_0 17 rfl rfl)
theorem dX6_dueOf_18 : decode cX6_dueOf 18 = .ok (.iaload, 1) := dk_46 (dk_at dksX6_dueOf_0 18 rfl rfl)
theorem dX6_dueOf_19 : decode cX6_dueOf 19 = .ok (.ifCond .ne 20, 3) := dk_154 0 20 (dk_at dksX6_dueOf_0 19 rfl rfl)
theorem dX6_dueOf_22 : decode cX6_dueOf 22 = .ok (.aload_n 0, 1) := dk_42 (dk_at dksX6_dueOf_0 22 rfl rfl)
theorem dX6_dueOf_23 : decode cX6_dueOf 23 = .ok (.iload_n 2, 1) := dk_28 (dk_at dksX6_dueOf_0 23 rfl rfl)
theorem dX6_dueOf_24 : decode cX6_dueOf 24 = .ok (.aload_n 0, 1) := dk_42 (dk_at dksX6_dueOf_1 0 rfl rfl)
theorem dX6_dueOf_25 : decode cX6_dueOf 25 = .ok (.getfield 396, 3) := dk_180 1 140 (dk_at dksX6_dueOf_1 1 rfl rfl)
theorem dX6_dueOf_28 : decode cX6_dueOf 28 = .ok (.iload_n 3, 1) := dk_29 (dk_at dksX6_dueOf_1 4 rfl rfl)
theorem dX6_dueOf_29 : decode cX6_dueOf 29 = .ok (.i2l, 1) := dk_133 (dk_at dksX6_dueOf_1 5 rfl rfl)
theorem dX6_dueOf_30 : decode cX6_dueOf 30 = .ok (.ladd, 1) := dk_97 (dk_at dksX6_dueOf_1 6 rfl rfl)
theorem dX6_dueOf_31 : decode cX6_dueOf 31 = .ok (.aload_n 0, 1) := dk_42 (dk_at dksX6_dueOf_1 7 rfl rfl)
theorem dX6_dueOf_32 : decode cX6_dueOf 32 = .ok (.getfield 399, 3) := dk_180 1 143 (dk_at dksX6_dueOf_1 8 rfl rfl)
theorem dX6_dueOf_35 : decode cX6_dueOf 35 = .ok (.invokevirtual 477, 3) := dk_182 1 221 (dk_at dksX6_dueOf_1 11 rfl rfl)
theorem dX6_dueOf_38 : decode cX6_dueOf 38 = .ok (.lreturn, 1) := dk_173 (dk_at dksX6_dueOf_1 14 rfl rfl)
theorem dX6_dueOf_39 : decode cX6_dueOf 39 = .ok (.aload_n 0, 1) := dk_42 (dk_at dksX6_dueOf_1 15 rfl rfl)
theorem dX6_dueOf_40 : decode cX6_dueOf 40 = .ok (.getfield 54, 3) := dk_180 0 54 (dk_at dksX6_dueOf_1 16 rfl rfl)
theorem dX6_dueOf_43 : decode cX6_dueOf 43 = .ok (.iconst 3, 1) := dk_6 (dk_at dksX6_dueOf_1 19 rfl rfl)
theorem dX6_dueOf_44 : decode cX6_dueOf 44 = .ok (.iload_n 1, 1) := dk_27 (dk_at dksX6_dueOf_1 20 rfl rfl)
theorem dX6_dueOf_45 : decode cX6_dueOf 45 = .ok (.imul, 1) := dk_104 (dk_at dksX6_dueOf_1 21 rfl rfl)
theorem dX6_dueOf_46 : decode cX6_dueOf 46 = .ok (.iaload, 1) := dk_46 (dk_at dksX6_dueOf_1 22 rfl rfl)
theorem dX6_dueOf_47 : decode cX6_dueOf 47 = .ok (.iconst 2, 1) := dk_5 (dk_at dksX6_dueOf_1 23 rfl rfl)
theorem dX6_dueOf_48 : decode cX6_dueOf 48 = .ok (.if_icmp .ne 17, 3) := dk_160 0 17 (dk_at dksX6_dueOf_2 0 rfl rfl)
theorem dX6_dueOf_51 : decode cX6_dueOf 51 = .ok (.aload_n 0, 1) := dk_42 (dk_at dksX6_dueOf_2 3 rfl rfl)
theorem dX6_dueOf_52 : decode cX6_dueOf 52 = .ok (.iload_n 3, 1) := dk_29 (dk_at dksX6_dueOf_2 4 rfl rfl)
theorem dX6_dueOf_53 : decode cX6_dueOf 53 = .ok (.aload_n 0, 1) := dk_42 (dk_at dksX6_dueOf_2 5 rfl rfl)
theorem dX6_dueOf_54 : decode cX6_dueOf 54 = .ok (.getfield 51, 3) := dk_180 0 51 (dk_at dksX6_dueOf_2 6 rfl rfl)
theorem dX6_dueOf_57 : decode cX6_dueOf 57 = .ok (.iload_n 1, 1) := dk_27 (dk_at dksX6_dueOf_2 9 rfl rfl)
theorem dX6_dueOf_58 : decode cX6_dueOf 58 = .ok (.laload, 1) := dk_47 (dk_at dksX6_dueOf_2 10 rfl rfl)
theorem dX6_dueOf_59 : decode cX6_dueOf 59 = .ok (.lconst 1, 1) := dk_10 (dk_at dksX6_dueOf_2 11 rfl rfl)
theorem dX6_dueOf_60 : decode cX6_dueOf 60 = .ok (.ladd, 1) := dk_97 (dk_at dksX6_dueOf_2 12 rfl rfl)
theorem dX6_dueOf_61 : decode cX6_dueOf 61 = .ok (.invokevirtual 458, 3) := dk_182 1 202 (dk_at dksX6_dueOf_2 13 rfl rfl)
theorem dX6_dueOf_64 : decode cX6_dueOf 64 = .ok (.lreturn, 1) := dk_173 (dk_at dksX6_dueOf_2 16 rfl rfl)
theorem dX6_dueOf_65 : decode cX6_dueOf 65 = .ok (.aload_n 0, 1) := dk_42 (dk_at dksX6_dueOf_2 17 rfl rfl)
theorem dX6_dueOf_66 : decode cX6_dueOf 66 = .ok (.getfield 51, 3) := dk_180 0 51 (dk_at dksX6_dueOf_2 18 rfl rfl)
theorem dX6_dueOf_69 : decode cX6_dueOf 69 = .ok (.iload_n 1, 1) := dk_27 (dk_at dksX6_dueOf_2 21 rfl rfl)
theorem dX6_dueOf_70 : decode cX6_dueOf 70 = .ok (.laload, 1) := dk_47 (dk_at dksX6_dueOf_2 22 rfl rfl)
theorem dX6_dueOf_71 : decode cX6_dueOf 71 = .ok (.iload_n 3, 1) := dk_29 (dk_at dksX6_dueOf_2 23 rfl rfl)
theorem dX6_dueOf_72 : decode cX6_dueOf 72 = .ok (.i2l, 1) := dk_133 (dk_at dksX6_dueOf_3 0 rfl rfl)
theorem dX6_dueOf_73 : decode cX6_dueOf 73 = .ok (.ladd, 1) := dk_97 (dk_at dksX6_dueOf_3 1 rfl rfl)
theorem dX6_dueOf_74 : decode cX6_dueOf 74 = .ok (.ldc2_w 125, 3) := dk_20 0 125 (dk_at dksX6_dueOf_3 2 rfl rfl)
theorem dX6_dueOf_77 : decode cX6_dueOf 77 = .ok (.lcmp, 1) := dk_148 (dk_at dksX6_dueOf_3 5 rfl rfl)
theorem dX6_dueOf_78 : decode cX6_dueOf 78 = .ok (.ifCond .le 9, 3) := dk_158 0 9 (dk_at dksX6_dueOf_3 6 rfl rfl)
theorem dX6_dueOf_81 : decode cX6_dueOf 81 = .ok (.ldc2_w 273, 3) := dk_20 1 17 (dk_at dksX6_dueOf_3 9 rfl rfl)
theorem dX6_dueOf_84 : decode cX6_dueOf 84 = .ok (.goto 12, 3) := dk_167 0 12 (dk_at dksX6_dueOf_3 12 rfl rfl)
theorem dX6_dueOf_87 : decode cX6_dueOf 87 = .ok (.aload_n 0, 1) := dk_42 (dk_at dksX6_dueOf_3 15 rfl rfl)
theorem dX6_dueOf_88 : decode cX6_dueOf 88 = .ok (.getfield 51, 3) := dk_180 0 51 (dk_at dksX6_dueOf_3 16 rfl rfl)
theorem dX6_dueOf_91 : decode cX6_dueOf 91 = .ok (.iload_n 1, 1) := dk_27 (dk_at dksX6_dueOf_3 19 rfl rfl)
theorem dX6_dueOf_92 : decode cX6_dueOf 92 = .ok (.laload, 1) := dk_47 (dk_at dksX6_dueOf_3 20 rfl rfl)
theorem dX6_dueOf_93 : decode cX6_dueOf 93 = .ok (.iload_n 3, 1) := dk_29 (dk_at dksX6_dueOf_3 21 rfl rfl)
theorem dX6_dueOf_94 : decode cX6_dueOf 94 = .ok (.i2l, 1) := dk_133 (dk_at dksX6_dueOf_3 22 rfl rfl)
theorem dX6_dueOf_95 : decode cX6_dueOf 95 = .ok (.ladd, 1) := dk_97 (dk_at dksX6_dueOf_3 23 rfl rfl)
theorem dX6_dueOf_96 : decode cX6_dueOf 96 = .ok (.lreturn, 1) := dk_173 (dk_at dksX6_dueOf_4 0 rfl rfl)
abbrev cX6_yearsLater : ByteArray := prog_20_method_90_code
def yX6_yearsLater : MethodName := ⟨RX6, "yearsLater", "(IJJ)J"⟩
def dkwX6_yearsLater_1 : List UInt8 := [155, 0, 12, 42, 27, 32, 22, 4, 182, 1, 19, 173, 42, 27, 32, 10, 97, 10, 182, 1, 19, 173]
abbrev dktX6_yearsLater_1 : List UInt8 := dkwX6_yearsLater_1 ++ []
def dkwX6_yearsLater_0 : List UInt8 := [42, 27, 32, 182, 1, 129, 154, 0, 7, 20, 1, 17, 173, 42, 27, 32, 182, 1, 119, 22, 4, 148]
abbrev dktX6_yearsLater_0 : List UInt8 := dkwX6_yearsLater_0 ++ dktX6_yearsLater_1
theorem dksX6_yearsLater_0 : cX6_yearsLater.data.toList.drop 0 = dktX6_yearsLater_0 := by decide +kernel
theorem dksX6_yearsLater_1 : cX6_yearsLater.data.toList.drop 22 = dktX6_yearsLater_1 := dk_seg dksX6_yearsLater_0 22 rfl rfl
theorem dX6_yearsLater_0 : decode cX6_yearsLater 0 = .ok (.aload_n 0, 1) := dk_42 (dk_at dksX6_yearsLater_0 0 rfl rfl)
theorem dX6_yearsLater_1 : decode cX6_yearsLater 1 = .ok (.iload_n 1, 1) := dk_27 (dk_at dksX6_yearsLater_0 1 rfl rfl)
theorem dX6_yearsLater_2 : decode cX6_yearsLater 2 = .ok (.lload_n 2, 1) := dk_32 (dk_at dksX6_yearsLater_0 2 rfl rfl)
theorem dX6_yearsLater_3 : decode cX6_yearsLater 3 = .ok (.invokevirtual 385, 3) := dk_182 1 129 (dk_at dksX6_yearsLater_0 3 rfl rfl)
theorem dX6_yearsLater_6 : decode cX6_yearsLater 6 = .ok (.ifCond .ne 7, 3) := dk_154 0 7 (dk_at dksX6_yearsLater_0 6 rfl rfl)
theorem dX6_yearsLater_9 : decode cX6_yearsLater 9 = .ok (.ldc2_w 273, 3) := dk_20 1 17 (dk_at dksX6_yearsLater_0 9 rfl rfl)
theorem dX6_yearsLater_12 : decode cX6_yearsLater 12 = .ok (.lreturn, 1) := dk_173 (dk_at dksX6_yearsLater_0 12 rfl rfl)
theorem dX6_yearsLater_13 : decode cX6_yearsLater 13 = .ok (.aload_n 0, 1) := dk_42 (dk_at dksX6_yearsLater_0 13 rfl rfl)
theorem dX6_yearsLater_14 : decode cX6_yearsLater 14 = .ok (.iload_n 1, 1) := dk_27 (dk_at dksX6_yearsLater_0 14 rfl rfl)
theorem dX6_yearsLater_15 : decode cX6_yearsLater 15 = .ok (.lload_n 2, 1) := dk_32 (dk_at dksX6_yearsLater_0 15 rfl rfl)
theorem dX6_yearsLater_16 : decode cX6_yearsLater 16 = .ok (.invokevirtual 375, 3) := dk_182 1 119 (dk_at dksX6_yearsLater_0 16 rfl rfl)
theorem dX6_yearsLater_19 : decode cX6_yearsLater 19 = .ok (.lload 4, 2) := dk_22 4 (dk_at dksX6_yearsLater_0 19 rfl rfl)
theorem dX6_yearsLater_21 : decode cX6_yearsLater 21 = .ok (.lcmp, 1) := dk_148 (dk_at dksX6_yearsLater_0 21 rfl rfl)
theorem dX6_yearsLater_22 : decode cX6_yearsLater 22 = .ok (.ifCond .lt 12, 3) := dk_155 0 12 (dk_at dksX6_yearsLater_1 0 rfl rfl)
theorem dX6_yearsLater_25 : decode cX6_yearsLater 25 = .ok (.aload_n 0, 1) := dk_42 (dk_at dksX6_yearsLater_1 3 rfl rfl)
theorem dX6_yearsLater_26 : decode cX6_yearsLater 26 = .ok (.iload_n 1, 1) := dk_27 (dk_at dksX6_yearsLater_1 4 rfl rfl)
theorem dX6_yearsLater_27 : decode cX6_yearsLater 27 = .ok (.lload_n 2, 1) := dk_32 (dk_at dksX6_yearsLater_1 5 rfl rfl)
theorem dX6_yearsLater_28 : decode cX6_yearsLater 28 = .ok (.lload 4, 2) := dk_22 4 (dk_at dksX6_yearsLater_1 6 rfl rfl)
theorem dX6_yearsLater_30 : decode cX6_yearsLater 30 = .ok (.invokevirtual 275, 3) := dk_182 1 19 (dk_at dksX6_yearsLater_1 8 rfl rfl)
theorem dX6_yearsLater_33 : decode cX6_yearsLater 33 = .ok (.lreturn, 1) := dk_173 (dk_at dksX6_yearsLater_1 11 rfl rfl)
theorem dX6_yearsLater_34 : decode cX6_yearsLater 34 = .ok (.aload_n 0, 1) := dk_42 (dk_at dksX6_yearsLater_1 12 rfl rfl)
theorem dX6_yearsLater_35 : decode cX6_yearsLater 35 = .ok (.iload_n 1, 1) := dk_27 (dk_at dksX6_yearsLater_1 13 rfl rfl)
theorem dX6_yearsLater_36 : decode cX6_yearsLater 36 = .ok (.lload_n 2, 1) := dk_32 (dk_at dksX6_yearsLater_1 14 rfl rfl)
theorem dX6_yearsLater_37 : decode cX6_yearsLater 37 = .ok (.lconst 1, 1) := dk_10 (dk_at dksX6_yearsLater_1 15 rfl rfl)
theorem dX6_yearsLater_38 : decode cX6_yearsLater 38 = .ok (.ladd, 1) := dk_97 (dk_at dksX6_yearsLater_1 16 rfl rfl)
theorem dX6_yearsLater_39 : decode cX6_yearsLater 39 = .ok (.lconst 1, 1) := dk_10 (dk_at dksX6_yearsLater_1 17 rfl rfl)
theorem dX6_yearsLater_40 : decode cX6_yearsLater 40 = .ok (.invokevirtual 275, 3) := dk_182 1 19 (dk_at dksX6_yearsLater_1 18 rfl rfl)
theorem dX6_yearsLater_43 : decode cX6_yearsLater 43 = .ok (.lreturn, 1) := dk_173 (dk_at dksX6_yearsLater_1 21 rfl rfl)
abbrev cX6_endedBy : ByteArray := prog_20_method_89_code
def yX6_endedBy : MethodName := ⟨RX6, "endedBy", "(IJ)J"⟩
def dkwX6_endedBy_2 : List UInt8 := [154, 0, 10, 42, 180, 1, 140, 167, 0, 9, 42, 180, 1, 140, 10, 101, 173]
abbrev dktX6_endedBy_2 : List UInt8 := dkwX6_endedBy_2 ++ []
def dkwX6_endedBy_1 : List UInt8 := [154, 0, 9, 42, 27, 182, 1, 136, 173, 42, 180, 1, 143, 42, 27, 42, 180, 1, 140, 182, 1, 119, 148]
abbrev dktX6_endedBy_1 : List UInt8 := dkwX6_endedBy_1 ++ dktX6_endedBy_2
def dkwX6_endedBy_0 : List UInt8 := [32, 42, 180, 0, 26, 6, 27, 104, 5, 96, 46, 133, 148, 156, 0, 5, 9, 173, 42, 27, 32, 182, 1, 160]
abbrev dktX6_endedBy_0 : List UInt8 := dkwX6_endedBy_0 ++ dktX6_endedBy_1
theorem dksX6_endedBy_0 : cX6_endedBy.data.toList.drop 0 = dktX6_endedBy_0 := by decide +kernel
theorem dksX6_endedBy_1 : cX6_endedBy.data.toList.drop 24 = dktX6_endedBy_1 := dk_seg dksX6_endedBy_0 24 rfl rfl
theorem dksX6_endedBy_2 : cX6_endedBy.data.toList.drop 47 = dktX6_endedBy_2 := dk_seg dksX6_endedBy_1 23 rfl rfl
theorem dX6_endedBy_0 : decode cX6_endedBy 0 = .ok (.lload_n 2, 1) := dk_32 (dk_at dksX6_endedBy_0 0 rfl rfl)
theorem dX6_endedBy_1 : decode cX6_endedBy 1 = .ok (.aload_n 0, 1) := dk_42 (dk_at dksX6_endedBy_0 1 rfl rfl)
theorem dX6_endedBy_2 : decode cX6_endedBy 2 = .ok (.getfield 26, 3) := dk_180 0 26 (dk_at dksX6_endedBy_0 2 rfl rfl)
theorem dX6_endedBy_5 : decode cX6_endedBy 5 = .ok (.iconst 3, 1) := dk_6 (dk_at dksX6_endedBy_0 5 rfl rfl)
theorem dX6_endedBy_6 : decode cX6_endedBy 6 = .ok (.iload_n 1, 1) := dk_27 (dk_at dksX6_endedBy_0 6 rfl rfl)
theorem dX6_endedBy_7 : decode cX6_endedBy 7 = .ok (.imul, 1) := dk_104 (dk_at dksX6_endedBy_0 7 rfl rfl)
theorem dX6_endedBy_8 : decode cX6_endedBy 8 = .ok (.iconst 2, 1) := dk_5 (dk_at dksX6_endedBy_0 8 rfl rfl)
theorem dX6_endedBy_9 : decode cX6_endedBy 9 = .ok (.iadd, 1) := dk_96 (dk_at dksX6_endedBy_0 9 rfl rfl)
theorem dX6_endedBy_10 : decode cX6_endedBy 10 = .ok (.iaload, 1) := dk_46 (dk_at dksX6_endedBy_0 10 rfl rfl)
theorem dX6_endedBy_11 : decode cX6_endedBy 11 = .ok (.i2l, 1) := dk_133 (dk_at dksX6_endedBy_0 11 rfl rfl)
theorem dX6_endedBy_12 : decode cX6_endedBy 12 = .ok (.lcmp, 1) := dk_148 (dk_at dksX6_endedBy_0 12 rfl rfl)
theorem dX6_endedBy_13 : decode cX6_endedBy 13 = .ok (.ifCond .ge 5, 3) := dk_156 0 5 (dk_at dksX6_endedBy_0 13 rfl rfl)
theorem dX6_endedBy_16 : decode cX6_endedBy 16 = .ok (.lconst 0, 1) := dk_9 (dk_at dksX6_endedBy_0 16 rfl rfl)
theorem dX6_endedBy_17 : decode cX6_endedBy 17 = .ok (.lreturn, 1) := dk_173 (dk_at dksX6_endedBy_0 17 rfl rfl)
theorem dX6_endedBy_18 : decode cX6_endedBy 18 = .ok (.aload_n 0, 1) := dk_42 (dk_at dksX6_endedBy_0 18 rfl rfl)
theorem dX6_endedBy_19 : decode cX6_endedBy 19 = .ok (.iload_n 1, 1) := dk_27 (dk_at dksX6_endedBy_0 19 rfl rfl)
theorem dX6_endedBy_20 : decode cX6_endedBy 20 = .ok (.lload_n 2, 1) := dk_32 (dk_at dksX6_endedBy_0 20 rfl rfl)
theorem dX6_endedBy_21 : decode cX6_endedBy 21 = .ok (.invokevirtual 416, 3) := dk_182 1 160 (dk_at dksX6_endedBy_0 21 rfl rfl)
theorem dX6_endedBy_24 : decode cX6_endedBy 24 = .ok (.ifCond .ne 9, 3) := dk_154 0 9 (dk_at dksX6_endedBy_1 0 rfl rfl)
theorem dX6_endedBy_27 : decode cX6_endedBy 27 = .ok (.aload_n 0, 1) := dk_42 (dk_at dksX6_endedBy_1 3 rfl rfl)
theorem dX6_endedBy_28 : decode cX6_endedBy 28 = .ok (.iload_n 1, 1) := dk_27 (dk_at dksX6_endedBy_1 4 rfl rfl)
theorem dX6_endedBy_29 : decode cX6_endedBy 29 = .ok (.invokevirtual 392, 3) := dk_182 1 136 (dk_at dksX6_endedBy_1 5 rfl rfl)
theorem dX6_endedBy_32 : decode cX6_endedBy 32 = .ok (.lreturn, 1) := dk_173 (dk_at dksX6_endedBy_1 8 rfl rfl)
theorem dX6_endedBy_33 : decode cX6_endedBy 33 = .ok (.aload_n 0, 1) := dk_42 (dk_at dksX6_endedBy_1 9 rfl rfl)
theorem dX6_endedBy_34 : decode cX6_endedBy 34 = .ok (.getfield 399, 3) := dk_180 1 143 (dk_at dksX6_endedBy_1 10 rfl rfl)
theorem dX6_endedBy_37 : decode cX6_endedBy 37 = .ok (.aload_n 0, 1) := dk_42 (dk_at dksX6_endedBy_1 13 rfl rfl)
theorem dX6_endedBy_38 : decode cX6_endedBy 38 = .ok (.iload_n 1, 1) := dk_27 (dk_at dksX6_endedBy_1 14 rfl rfl)
theorem dX6_endedBy_39 : decode cX6_endedBy 39 = .ok (.aload_n 0, 1) := dk_42 (dk_at dksX6_endedBy_1 15 rfl rfl)
theorem dX6_endedBy_40 : decode cX6_endedBy 40 = .ok (.getfield 396, 3) := dk_180 1 140 (dk_at dksX6_endedBy_1 16 rfl rfl)
theorem dX6_endedBy_43 : decode cX6_endedBy 43 = .ok (.invokevirtual 375, 3) := dk_182 1 119 (dk_at dksX6_endedBy_1 19 rfl rfl)
theorem dX6_endedBy_46 : decode cX6_endedBy 46 = .ok (.lcmp, 1) := dk_148 (dk_at dksX6_endedBy_1 22 rfl rfl)
theorem dX6_endedBy_47 : decode cX6_endedBy 47 = .ok (.ifCond .ne 10, 3) := dk_154 0 10 (dk_at dksX6_endedBy_2 0 rfl rfl)
theorem dX6_endedBy_50 : decode cX6_endedBy 50 = .ok (.aload_n 0, 1) := dk_42 (dk_at dksX6_endedBy_2 3 rfl rfl)
theorem dX6_endedBy_51 : decode cX6_endedBy 51 = .ok (.getfield 396, 3) := dk_180 1 140 (dk_at dksX6_endedBy_2 4 rfl rfl)
theorem dX6_endedBy_54 : decode cX6_endedBy 54 = .ok (.goto 9, 3) := dk_167 0 9 (dk_at dksX6_endedBy_2 7 rfl rfl)
theorem dX6_endedBy_57 : decode cX6_endedBy 57 = .ok (.aload_n 0, 1) := dk_42 (dk_at dksX6_endedBy_2 10 rfl rfl)
theorem dX6_endedBy_58 : decode cX6_endedBy 58 = .ok (.getfield 396, 3) := dk_180 1 140 (dk_at dksX6_endedBy_2 11 rfl rfl)
theorem dX6_endedBy_61 : decode cX6_endedBy 61 = .ok (.lconst 1, 1) := dk_10 (dk_at dksX6_endedBy_2 14 rfl rfl)
theorem dX6_endedBy_62 : decode cX6_endedBy 62 = .ok (.lsub, 1) := dk_101 (dk_at dksX6_endedBy_2 15 rfl rfl)
theorem dX6_endedBy_63 : decode cX6_endedBy 63 = .ok (.lreturn, 1) := dk_173 (dk_at dksX6_endedBy_2 16 rfl rfl)
abbrev cX6_ends : ByteArray := prog_20_method_94_code
def yX6_ends : MethodName := ⟨RX6, "ends", "(IJI)I"⟩
def dkwX6_ends_2 : List UInt8 := [21, 4, 133, 97, 182, 1, 228, 42, 27, 32, 182, 1, 228, 101, 136, 172]
abbrev dktX6_ends_2 : List UInt8 := dkwX6_ends_2 ++ []
def dkwX6_ends_1 : List UInt8 := [184, 1, 231, 153, 0, 15, 32, 21, 4, 133, 97, 20, 0, 125, 148, 158, 0, 5, 2, 172, 42, 27, 32]
abbrev dktX6_ends_1 : List UInt8 := dkwX6_ends_1 ++ dktX6_ends_2
def dkwX6_ends_0 : List UInt8 := [42, 3, 181, 0, 119, 42, 27, 182, 1, 148, 153, 0, 30, 32, 184, 1, 157, 153, 0, 23, 21, 4]
abbrev dktX6_ends_0 : List UInt8 := dkwX6_ends_0 ++ dktX6_ends_1
theorem dksX6_ends_0 : cX6_ends.data.toList.drop 0 = dktX6_ends_0 := by decide +kernel
theorem dksX6_ends_1 : cX6_ends.data.toList.drop 22 = dktX6_ends_1 := dk_seg dksX6_ends_0 22 rfl rfl
theorem dksX6_ends_2 : cX6_ends.data.toList.drop 45 = dktX6_ends_2 := dk_seg dksX6_ends_1 23 rfl rfl
theorem dX6_ends_0 : decode cX6_ends 0 = .ok (.aload_n 0, 1) := dk_42 (dk_at dksX6_ends_0 0 rfl rfl)
theorem dX6_ends_1 : decode cX6_ends 1 = .ok (.iconst 0, 1) := dk_3 (dk_at dksX6_ends_0 1 rfl rfl)
theorem dX6_ends_2 : decode cX6_ends 2 = .ok (.putfield 119, 3) := dk_181 0 119 (dk_at dksX6_ends_0 2 rfl rfl)
theorem dX6_ends_5 : decode cX6_ends 5 = .ok (.aload_n 0, 1) := dk_42 (dk_at dksX6_ends_0 5 rfl rfl)
theorem dX6_ends_6 : decode cX6_ends 6 = .ok (.iload_n 1, 1) := dk_27 (dk_at dksX6_ends_0 6 rfl rfl)
theorem dX6_ends_7 : decode cX6_ends 7 = .ok (.invokevirtual 404, 3) := dk_182 1 148 (dk_at dksX6_ends_0 7 rfl rfl)
theorem dX6_ends_10 : decode cX6_ends 10 = .ok (.ifCond .eq 30, 3) := dk_153 0 30 (dk_at dksX6_ends_0 10 rfl rfl)
theorem dX6_ends_13 : decode cX6_ends 13 = .ok (.lload_n 2, 1) := dk_32 (dk_at dksX6_ends_0 13 rfl rfl)
theorem dX6_ends_14 : decode cX6_ends 14 = .ok (.invokestatic 413, 3) := dk_184 1 157 (dk_at dksX6_ends_0 14 rfl rfl)
theorem dX6_ends_17 : decode cX6_ends 17 = .ok (.ifCond .eq 23, 3) := dk_153 0 23 (dk_at dksX6_ends_0 17 rfl rfl)
theorem dX6_ends_20 : decode cX6_ends 20 = .ok (.iload 4, 2) := dk_21 4 (dk_at dksX6_ends_0 20 rfl rfl)
theorem dX6_ends_22 : decode cX6_ends 22 = .ok (.invokestatic 487, 3) := dk_184 1 231 (dk_at dksX6_ends_1 0 rfl rfl)
theorem dX6_ends_25 : decode cX6_ends 25 = .ok (.ifCond .eq 15, 3) := dk_153 0 15 (dk_at dksX6_ends_1 3 rfl rfl)
theorem dX6_ends_28 : decode cX6_ends 28 = .ok (.lload_n 2, 1) := dk_32 (dk_at dksX6_ends_1 6 rfl rfl)
theorem dX6_ends_29 : decode cX6_ends 29 = .ok (.iload 4, 2) := dk_21 4 (dk_at dksX6_ends_1 7 rfl rfl)
theorem dX6_ends_31 : decode cX6_ends 31 = .ok (.i2l, 1) := dk_133 (dk_at dksX6_ends_1 9 rfl rfl)
theorem dX6_ends_32 : decode cX6_ends 32 = .ok (.ladd, 1) := dk_97 (dk_at dksX6_ends_1 10 rfl rfl)
theorem dX6_ends_33 : decode cX6_ends 33 = .ok (.ldc2_w 125, 3) := dk_20 0 125 (dk_at dksX6_ends_1 11 rfl rfl)
theorem dX6_ends_36 : decode cX6_ends 36 = .ok (.lcmp, 1) := dk_148 (dk_at dksX6_ends_1 14 rfl rfl)
theorem dX6_ends_37 : decode cX6_ends 37 = .ok (.ifCond .le 5, 3) := dk_158 0 5 (dk_at dksX6_ends_1 15 rfl rfl)
theorem dX6_ends_40 : decode cX6_ends 40 = .ok (.iconst (-1), 1) := dk_2 (dk_at dksX6_ends_1 18 rfl rfl)
theorem dX6_ends_41 : decode cX6_ends 41 = .ok (.ireturn, 1) := dk_172 (dk_at dksX6_ends_1 19 rfl rfl)
theorem dX6_ends_42 : decode cX6_ends 42 = .ok (.aload_n 0, 1) := dk_42 (dk_at dksX6_ends_1 20 rfl rfl)
theorem dX6_ends_43 : decode cX6_ends 43 = .ok (.iload_n 1, 1) := dk_27 (dk_at dksX6_ends_1 21 rfl rfl)
theorem dX6_ends_44 : decode cX6_ends 44 = .ok (.lload_n 2, 1) := dk_32 (dk_at dksX6_ends_1 22 rfl rfl)
theorem dX6_ends_45 : decode cX6_ends 45 = .ok (.iload 4, 2) := dk_21 4 (dk_at dksX6_ends_2 0 rfl rfl)
theorem dX6_ends_47 : decode cX6_ends 47 = .ok (.i2l, 1) := dk_133 (dk_at dksX6_ends_2 2 rfl rfl)
theorem dX6_ends_48 : decode cX6_ends 48 = .ok (.ladd, 1) := dk_97 (dk_at dksX6_ends_2 3 rfl rfl)
theorem dX6_ends_49 : decode cX6_ends 49 = .ok (.invokevirtual 484, 3) := dk_182 1 228 (dk_at dksX6_ends_2 4 rfl rfl)
theorem dX6_ends_52 : decode cX6_ends 52 = .ok (.aload_n 0, 1) := dk_42 (dk_at dksX6_ends_2 7 rfl rfl)
theorem dX6_ends_53 : decode cX6_ends 53 = .ok (.iload_n 1, 1) := dk_27 (dk_at dksX6_ends_2 8 rfl rfl)
theorem dX6_ends_54 : decode cX6_ends 54 = .ok (.lload_n 2, 1) := dk_32 (dk_at dksX6_ends_2 9 rfl rfl)
theorem dX6_ends_55 : decode cX6_ends 55 = .ok (.invokevirtual 484, 3) := dk_182 1 228 (dk_at dksX6_ends_2 10 rfl rfl)
theorem dX6_ends_58 : decode cX6_ends 58 = .ok (.lsub, 1) := dk_101 (dk_at dksX6_ends_2 13 rfl rfl)
theorem dX6_ends_59 : decode cX6_ends 59 = .ok (.l2i, 1) := dk_136 (dk_at dksX6_ends_2 14 rfl rfl)
theorem dX6_ends_60 : decode cX6_ends 60 = .ok (.ireturn, 1) := dk_172 (dk_at dksX6_ends_2 15 rfl rfl)
abbrev cX6_isDays : ByteArray := prog_20_method_93_code
def yX6_isDays : MethodName := ⟨RX6, "isDays", "(I)Z"⟩
def dkwX6_isDays_0 : List UInt8 := [26, 4, 18, 159, 184, 0, 166, 172]
abbrev dktX6_isDays_0 : List UInt8 := dkwX6_isDays_0 ++ []
theorem dksX6_isDays_0 : cX6_isDays.data.toList.drop 0 = dktX6_isDays_0 := by decide +kernel
theorem dX6_isDays_0 : decode cX6_isDays 0 = .ok (.iload_n 0, 1) := dk_26 (dk_at dksX6_isDays_0 0 rfl rfl)
theorem dX6_isDays_1 : decode cX6_isDays 1 = .ok (.iconst 1, 1) := dk_4 (dk_at dksX6_isDays_0 1 rfl rfl)
theorem dX6_isDays_2 : decode cX6_isDays 2 = .ok (.ldc 159, 2) := dk_18 159 (dk_at dksX6_isDays_0 2 rfl rfl)
theorem dX6_isDays_4 : decode cX6_isDays 4 = .ok (.invokestatic 166, 3) := dk_184 0 166 (dk_at dksX6_isDays_0 4 rfl rfl)
theorem dX6_isDays_7 : decode cX6_isDays 7 = .ok (.ireturn, 1) := dk_172 (dk_at dksX6_isDays_0 7 rfl rfl)
abbrev cX6_hire : ByteArray := prog_20_method_95_code
def yX6_hire : MethodName := ⟨RX6, "hire", "(IJII)J"⟩
def dkwX6_hire_5 : List UInt8 := [167, 0, 11, 22, 10, 55, 6, 22, 12, 55, 8, 22, 10, 10, 97, 55, 10, 167, 255, 192, 22, 6, 173]
abbrev dktX6_hire_5 : List UInt8 := dkwX6_hire_5 ++ []
def dkwX6_hire_4 : List UInt8 := [22, 10, 182, 1, 228, 101, 55, 12, 22, 6, 9, 148, 155, 0, 14, 22, 12, 22, 8, 148, 157, 0, 6]
abbrev dktX6_hire_4 : List UInt8 := dkwX6_hire_4 ++ dktX6_hire_5
def dkwX6_hire_3 : List UInt8 := [22, 10, 32, 21, 4, 133, 97, 148, 157, 0, 59, 42, 27, 22, 10, 21, 5, 133, 97, 182, 1, 228, 42, 27]
abbrev dktX6_hire_3 : List UInt8 := dkwX6_hire_3 ++ dktX6_hire_4
def dkwX6_hire_2 : List UInt8 := [133, 97, 20, 0, 125, 148, 158, 0, 7, 20, 1, 17, 173, 20, 1, 17, 55, 6, 9, 55, 8, 32, 55, 10]
abbrev dktX6_hire_2 : List UInt8 := dkwX6_hire_2 ++ dktX6_hire_3
def dkwX6_hire_1 : List UInt8 := [17, 3, 231, 184, 0, 166, 153, 0, 27, 21, 5, 184, 1, 231, 153, 0, 19, 32, 21, 4, 133, 97, 21, 5]
abbrev dktX6_hire_1 : List UInt8 := dkwX6_hire_1 ++ dktX6_hire_2
def dkwX6_hire_0 : List UInt8 := [42, 3, 181, 0, 119, 42, 27, 182, 1, 148, 153, 0, 46, 32, 184, 1, 157, 153, 0, 39, 21, 4, 3]
abbrev dktX6_hire_0 : List UInt8 := dkwX6_hire_0 ++ dktX6_hire_1
theorem dksX6_hire_0 : cX6_hire.data.toList.drop 0 = dktX6_hire_0 := by decide +kernel
theorem dksX6_hire_1 : cX6_hire.data.toList.drop 23 = dktX6_hire_1 := dk_seg dksX6_hire_0 23 rfl rfl
theorem dksX6_hire_2 : cX6_hire.data.toList.drop 47 = dktX6_hire_2 := dk_seg dksX6_hire_1 24 rfl rfl
theorem dksX6_hire_3 : cX6_hire.data.toList.drop 71 = dktX6_hire_3 := dk_seg dksX6_hire_2 24 rfl rfl
theorem dksX6_hire_4 : cX6_hire.data.toList.drop 95 = dktX6_hire_4 := dk_seg dksX6_hire_3 24 rfl rfl
theorem dksX6_hire_5 : cX6_hire.data.toList.drop 118 = dktX6_hire_5 := dk_seg dksX6_hire_4 23 rfl rfl
theorem dX6_hire_0 : decode cX6_hire 0 = .ok (.aload_n 0, 1) := dk_42 (dk_at dksX6_hire_0 0 rfl rfl)
theorem dX6_hire_1 : decode cX6_hire 1 = .ok (.iconst 0, 1) := dk_3 (dk_at dksX6_hire_0 1 rfl rfl)
theorem dX6_hire_2 : decode cX6_hire 2 = .ok (.putfield 119, 3) := dk_181 0 119 (dk_at dksX6_hire_0 2 rfl rfl)
theorem dX6_hire_5 : decode cX6_hire 5 = .ok (.aload_n 0, 1) := dk_42 (dk_at dksX6_hire_0 5 rfl rfl)
theorem dX6_hire_6 : decode cX6_hire 6 = .ok (.iload_n 1, 1) := dk_27 (dk_at dksX6_hire_0 6 rfl rfl)
theorem dX6_hire_7 : decode cX6_hire 7 = .ok (.invokevirtual 404, 3) := dk_182 1 148 (dk_at dksX6_hire_0 7 rfl rfl)
theorem dX6_hire_10 : decode cX6_hire 10 = .ok (.ifCond .eq 46, 3) := dk_153 0 46 (dk_at dksX6_hire_0 10 rfl rfl)
theorem dX6_hire_13 : decode cX6_hire 13 = .ok (.lload_n 2, 1) := dk_32 (dk_at dksX6_hire_0 13 rfl rfl)
theorem dX6_hire_14 : decode cX6_hire 14 = .ok (.invokestatic 413, 3) := dk_184 1 157 (dk_at dksX6_hire_0 14 rfl rfl)
theorem dX6_hire_17 : decode cX6_hire 17 = .ok (.ifCond .eq 39, 3) := dk_153 0 39 (dk_at dksX6_hire_0 17 rfl rfl)
theorem dX6_hire_20 : decode cX6_hire 20 = .ok (.iload 4, 2) := dk_21 4 (dk_at dksX6_hire_0 20 rfl rfl)
theorem dX6_hire_22 : decode cX6_hire 22 = .ok (.iconst 0, 1) := dk_3 (dk_at dksX6_hire_0 22 rfl rfl)
theorem dX6_hire_23 : decode cX6_hire 23 = .ok (.sipush 999, 3) := dk_17 3 231 (dk_at dksX6_hire_1 0 rfl rfl)
theorem dX6_hire_26 : decode cX6_hire 26 = .ok (.invokestatic 166, 3) := dk_184 0 166 (dk_at dksX6_hire_1 3 rfl rfl)
theorem dX6_hire_29 : decode cX6_hire 29 = .ok (.ifCond .eq 27, 3) := dk_153 0 27 (dk_at dksX6_hire_1 6 rfl rfl)
theorem dX6_hire_32 : decode cX6_hire 32 = .ok (.iload 5, 2) := dk_21 5 (dk_at dksX6_hire_1 9 rfl rfl)
theorem dX6_hire_34 : decode cX6_hire 34 = .ok (.invokestatic 487, 3) := dk_184 1 231 (dk_at dksX6_hire_1 11 rfl rfl)
theorem dX6_hire_37 : decode cX6_hire 37 = .ok (.ifCond .eq 19, 3) := dk_153 0 19 (dk_at dksX6_hire_1 14 rfl rfl)
theorem dX6_hire_40 : decode cX6_hire 40 = .ok (.lload_n 2, 1) := dk_32 (dk_at dksX6_hire_1 17 rfl rfl)
theorem dX6_hire_41 : decode cX6_hire 41 = .ok (.iload 4, 2) := dk_21 4 (dk_at dksX6_hire_1 18 rfl rfl)
theorem dX6_hire_43 : decode cX6_hire 43 = .ok (.i2l, 1) := dk_133 (dk_at dksX6_hire_1 20 rfl rfl)
theorem dX6_hire_44 : decode cX6_hire 44 = .ok (.ladd, 1) := dk_97 (dk_at dksX6_hire_1 21 rfl rfl)
theorem dX6_hire_45 : decode cX6_hire 45 = .ok (.iload 5, 2) := dk_21 5 (dk_at dksX6_hire_1 22 rfl rfl)
theorem dX6_hire_47 : decode cX6_hire 47 = .ok (.i2l, 1) := dk_133 (dk_at dksX6_hire_2 0 rfl rfl)
theorem dX6_hire_48 : decode cX6_hire 48 = .ok (.ladd, 1) := dk_97 (dk_at dksX6_hire_2 1 rfl rfl)
theorem dX6_hire_49 : decode cX6_hire 49 = .ok (.ldc2_w 125, 3) := dk_20 0 125 (dk_at dksX6_hire_2 2 rfl rfl)
theorem dX6_hire_52 : decode cX6_hire 52 = .ok (.lcmp, 1) := dk_148 (dk_at dksX6_hire_2 5 rfl rfl)
theorem dX6_hire_53 : decode cX6_hire 53 = .ok (.ifCond .le 7, 3) := dk_158 0 7 (dk_at dksX6_hire_2 6 rfl rfl)
theorem dX6_hire_56 : decode cX6_hire 56 = .ok (.ldc2_w 273, 3) := dk_20 1 17 (dk_at dksX6_hire_2 9 rfl rfl)
theorem dX6_hire_59 : decode cX6_hire 59 = .ok (.lreturn, 1) := dk_173 (dk_at dksX6_hire_2 12 rfl rfl)
theorem dX6_hire_60 : decode cX6_hire 60 = .ok (.ldc2_w 273, 3) := dk_20 1 17 (dk_at dksX6_hire_2 13 rfl rfl)
theorem dX6_hire_63 : decode cX6_hire 63 = .ok (.lstore 6, 2) := dk_55 6 (dk_at dksX6_hire_2 16 rfl rfl)
theorem dX6_hire_65 : decode cX6_hire 65 = .ok (.lconst 0, 1) := dk_9 (dk_at dksX6_hire_2 18 rfl rfl)
theorem dX6_hire_66 : decode cX6_hire 66 = .ok (.lstore 8, 2) := dk_55 8 (dk_at dksX6_hire_2 19 rfl rfl)
theorem dX6_hire_68 : decode cX6_hire 68 = .ok (.lload_n 2, 1) := dk_32 (dk_at dksX6_hire_2 21 rfl rfl)
theorem dX6_hire_69 : decode cX6_hire 69 = .ok (.lstore 10, 2) := dk_55 10 (dk_at dksX6_hire_2 22 rfl rfl)
theorem dX6_hire_71 : decode cX6_hire 71 = .ok (.lload 10, 2) := dk_22 10 (dk_at dksX6_hire_3 0 rfl rfl)
theorem dX6_hire_73 : decode cX6_hire 73 = .ok (.lload_n 2, 1) := dk_32 (dk_at dksX6_hire_3 2 rfl rfl)
theorem dX6_hire_74 : decode cX6_hire 74 = .ok (.iload 4, 2) := dk_21 4 (dk_at dksX6_hire_3 3 rfl rfl)
theorem dX6_hire_76 : decode cX6_hire 76 = .ok (.i2l, 1) := dk_133 (dk_at dksX6_hire_3 5 rfl rfl)
theorem dX6_hire_77 : decode cX6_hire 77 = .ok (.ladd, 1) := dk_97 (dk_at dksX6_hire_3 6 rfl rfl)
theorem dX6_hire_78 : decode cX6_hire 78 = .ok (.lcmp, 1) := dk_148 (dk_at dksX6_hire_3 7 rfl rfl)
theorem dX6_hire_79 : decode cX6_hire 79 = .ok (.ifCond .gt 59, 3) := dk_157 0 59 (dk_at dksX6_hire_3 8 rfl rfl)
theorem dX6_hire_82 : decode cX6_hire 82 = .ok (.aload_n 0, 1) := dk_42 (dk_at dksX6_hire_3 11 rfl rfl)
theorem dX6_hire_83 : decode cX6_hire 83 = .ok (.iload_n 1, 1) := dk_27 (dk_at dksX6_hire_3 12 rfl rfl)
theorem dX6_hire_84 : decode cX6_hire 84 = .ok (.lload 10, 2) := dk_22 10 (dk_at dksX6_hire_3 13 rfl rfl)
theorem dX6_hire_86 : decode cX6_hire 86 = .ok (.iload 5, 2) := dk_21 5 (dk_at dksX6_hire_3 15 rfl rfl)
theorem dX6_hire_88 : decode cX6_hire 88 = .ok (.i2l, 1) := dk_133 (dk_at dksX6_hire_3 17 rfl rfl)
theorem dX6_hire_89 : decode cX6_hire 89 = .ok (.ladd, 1) := dk_97 (dk_at dksX6_hire_3 18 rfl rfl)
theorem dX6_hire_90 : decode cX6_hire 90 = .ok (.invokevirtual 484, 3) := dk_182 1 228 (dk_at dksX6_hire_3 19 rfl rfl)
theorem dX6_hire_93 : decode cX6_hire 93 = .ok (.aload_n 0, 1) := dk_42 (dk_at dksX6_hire_3 22 rfl rfl)
theorem dX6_hire_94 : decode cX6_hire 94 = .ok (.iload_n 1, 1) := dk_27 (dk_at dksX6_hire_3 23 rfl rfl)
theorem dX6_hire_95 : decode cX6_hire 95 = .ok (.lload 10, 2) := dk_22 10 (dk_at dksX6_hire_4 0 rfl rfl)
theorem dX6_hire_97 : decode cX6_hire 97 = .ok (.invokevirtual 484, 3) := dk_182 1 228 (dk_at dksX6_hire_4 2 rfl rfl)
theorem dX6_hire_100 : decode cX6_hire 100 = .ok (.lsub, 1) := dk_101 (dk_at dksX6_hire_4 5 rfl rfl)
theorem dX6_hire_101 : decode cX6_hire 101 = .ok (.lstore 12, 2) := dk_55 12 (dk_at dksX6_hire_4 6 rfl rfl)
theorem dX6_hire_103 : decode cX6_hire 103 = .ok (.lload 6, 2) := dk_22 6 (dk_at dksX6_hire_4 8 rfl rfl)
theorem dX6_hire_105 : decode cX6_hire 105 = .ok (.lconst 0, 1) := dk_9 (dk_at dksX6_hire_4 10 rfl rfl)
theorem dX6_hire_106 : decode cX6_hire 106 = .ok (.lcmp, 1) := dk_148 (dk_at dksX6_hire_4 11 rfl rfl)
theorem dX6_hire_107 : decode cX6_hire 107 = .ok (.ifCond .lt 14, 3) := dk_155 0 14 (dk_at dksX6_hire_4 12 rfl rfl)
theorem dX6_hire_110 : decode cX6_hire 110 = .ok (.lload 12, 2) := dk_22 12 (dk_at dksX6_hire_4 15 rfl rfl)
theorem dX6_hire_112 : decode cX6_hire 112 = .ok (.lload 8, 2) := dk_22 8 (dk_at dksX6_hire_4 17 rfl rfl)
theorem dX6_hire_114 : decode cX6_hire 114 = .ok (.lcmp, 1) := dk_148 (dk_at dksX6_hire_4 19 rfl rfl)
theorem dX6_hire_115 : decode cX6_hire 115 = .ok (.ifCond .gt 6, 3) := dk_157 0 6 (dk_at dksX6_hire_4 20 rfl rfl)
theorem dX6_hire_118 : decode cX6_hire 118 = .ok (.goto 11, 3) := dk_167 0 11 (dk_at dksX6_hire_5 0 rfl rfl)
theorem dX6_hire_121 : decode cX6_hire 121 = .ok (.lload 10, 2) := dk_22 10 (dk_at dksX6_hire_5 3 rfl rfl)
theorem dX6_hire_123 : decode cX6_hire 123 = .ok (.lstore 6, 2) := dk_55 6 (dk_at dksX6_hire_5 5 rfl rfl)
theorem dX6_hire_125 : decode cX6_hire 125 = .ok (.lload 12, 2) := dk_22 12 (dk_at dksX6_hire_5 7 rfl rfl)
theorem dX6_hire_127 : decode cX6_hire 127 = .ok (.lstore 8, 2) := dk_55 8 (dk_at dksX6_hire_5 9 rfl rfl)
theorem dX6_hire_129 : decode cX6_hire 129 = .ok (.lload 10, 2) := dk_22 10 (dk_at dksX6_hire_5 11 rfl rfl)
theorem dX6_hire_131 : decode cX6_hire 131 = .ok (.lconst 1, 1) := dk_10 (dk_at dksX6_hire_5 13 rfl rfl)
theorem dX6_hire_132 : decode cX6_hire 132 = .ok (.ladd, 1) := dk_97 (dk_at dksX6_hire_5 14 rfl rfl)
theorem dX6_hire_133 : decode cX6_hire 133 = .ok (.lstore 10, 2) := dk_55 10 (dk_at dksX6_hire_5 15 rfl rfl)
theorem dX6_hire_135 : decode cX6_hire 135 = .ok (.goto (-64), 3) := dk_167 255 192 (dk_at dksX6_hire_5 17 rfl rfl)
theorem dX6_hire_138 : decode cX6_hire 138 = .ok (.lload 6, 2) := dk_22 6 (dk_at dksX6_hire_5 20 rfl rfl)
theorem dX6_hire_140 : decode cX6_hire 140 = .ok (.lreturn, 1) := dk_173 (dk_at dksX6_hire_5 22 rfl rfl)
abbrev cX6_parts : ByteArray := prog_20_method_96_code
def yX6_parts : MethodName := ⟨RX6, "parts", "(III)I"⟩
def dkwX6_parts_4 : List UInt8 := [172]
abbrev dktX6_parts_4 : List UInt8 := dkwX6_parts_4 ++ []
def dkwX6_parts_3 : List UInt8 := [132, 4, 1, 21, 6, 54, 5, 132, 6, 1, 167, 255, 220, 29, 154, 0, 8, 21, 4, 167, 0, 5, 21, 5]
abbrev dktX6_parts_3 : List UInt8 := dkwX6_parts_3 ++ dktX6_parts_4
def dkwX6_parts_2 : List UInt8 := [162, 0, 35, 42, 27, 28, 133, 182, 1, 119, 21, 6, 133, 113, 9, 148, 153, 0, 6, 167, 0, 10]
abbrev dktX6_parts_2 : List UInt8 := dkwX6_parts_2 ++ dktX6_parts_3
def dkwX6_parts_1 : List UInt8 := [3, 4, 184, 0, 166, 154, 0, 5, 2, 172, 3, 54, 4, 3, 54, 5, 4, 54, 6, 21, 6, 16, 100]
abbrev dktX6_parts_1 : List UInt8 := dkwX6_parts_1 ++ dktX6_parts_2
def dkwX6_parts_0 : List UInt8 := [42, 3, 181, 0, 119, 42, 27, 182, 1, 148, 153, 0, 22, 42, 27, 28, 133, 182, 1, 154, 153, 0, 12, 29]
abbrev dktX6_parts_0 : List UInt8 := dkwX6_parts_0 ++ dktX6_parts_1
theorem dksX6_parts_0 : cX6_parts.data.toList.drop 0 = dktX6_parts_0 := by decide +kernel
theorem dksX6_parts_1 : cX6_parts.data.toList.drop 24 = dktX6_parts_1 := dk_seg dksX6_parts_0 24 rfl rfl
theorem dksX6_parts_2 : cX6_parts.data.toList.drop 47 = dktX6_parts_2 := dk_seg dksX6_parts_1 23 rfl rfl
theorem dksX6_parts_3 : cX6_parts.data.toList.drop 69 = dktX6_parts_3 := dk_seg dksX6_parts_2 22 rfl rfl
theorem dksX6_parts_4 : cX6_parts.data.toList.drop 93 = dktX6_parts_4 := dk_seg dksX6_parts_3 24 rfl rfl
theorem dX6_parts_0 : decode cX6_parts 0 = .ok (.aload_n 0, 1) := dk_42 (dk_at dksX6_parts_0 0 rfl rfl)
theorem dX6_parts_1 : decode cX6_parts 1 = .ok (.iconst 0, 1) := dk_3 (dk_at dksX6_parts_0 1 rfl rfl)
theorem dX6_parts_2 : decode cX6_parts 2 = .ok (.putfield 119, 3) := dk_181 0 119 (dk_at dksX6_parts_0 2 rfl rfl)
theorem dX6_parts_5 : decode cX6_parts 5 = .ok (.aload_n 0, 1) := dk_42 (dk_at dksX6_parts_0 5 rfl rfl)
theorem dX6_parts_6 : decode cX6_parts 6 = .ok (.iload_n 1, 1) := dk_27 (dk_at dksX6_parts_0 6 rfl rfl)
theorem dX6_parts_7 : decode cX6_parts 7 = .ok (.invokevirtual 404, 3) := dk_182 1 148 (dk_at dksX6_parts_0 7 rfl rfl)
theorem dX6_parts_10 : decode cX6_parts 10 = .ok (.ifCond .eq 22, 3) := dk_153 0 22 (dk_at dksX6_parts_0 10 rfl rfl)
theorem dX6_parts_13 : decode cX6_parts 13 = .ok (.aload_n 0, 1) := dk_42 (dk_at dksX6_parts_0 13 rfl rfl)
theorem dX6_parts_14 : decode cX6_parts 14 = .ok (.iload_n 1, 1) := dk_27 (dk_at dksX6_parts_0 14 rfl rfl)
theorem dX6_parts_15 : decode cX6_parts 15 = .ok (.iload_n 2, 1) := dk_28 (dk_at dksX6_parts_0 15 rfl rfl)
theorem dX6_parts_16 : decode cX6_parts 16 = .ok (.i2l, 1) := dk_133 (dk_at dksX6_parts_0 16 rfl rfl)
theorem dX6_parts_17 : decode cX6_parts 17 = .ok (.invokevirtual 410, 3) := dk_182 1 154 (dk_at dksX6_parts_0 17 rfl rfl)
theorem dX6_parts_20 : decode cX6_parts 20 = .ok (.ifCond .eq 12, 3) := dk_153 0 12 (dk_at dksX6_parts_0 20 rfl rfl)
theorem dX6_parts_23 : decode cX6_parts 23 = .ok (.iload_n 3, 1) := dk_29 (dk_at dksX6_parts_0 23 rfl rfl)
theorem dX6_parts_24 : decode cX6_parts 24 = .ok (.iconst 0, 1) := dk_3 (dk_at dksX6_parts_1 0 rfl rfl)
theorem dX6_parts_25 : decode cX6_parts 25 = .ok (.iconst 1, 1) := dk_4 (dk_at dksX6_parts_1 1 rfl rfl)
theorem dX6_parts_26 : decode cX6_parts 26 = .ok (.invokestatic 166, 3) := dk_184 0 166 (dk_at dksX6_parts_1 2 rfl rfl)
theorem dX6_parts_29 : decode cX6_parts 29 = .ok (.ifCond .ne 5, 3) := dk_154 0 5 (dk_at dksX6_parts_1 5 rfl rfl)
theorem dX6_parts_32 : decode cX6_parts 32 = .ok (.iconst (-1), 1) := dk_2 (dk_at dksX6_parts_1 8 rfl rfl)
theorem dX6_parts_33 : decode cX6_parts 33 = .ok (.ireturn, 1) := dk_172 (dk_at dksX6_parts_1 9 rfl rfl)
theorem dX6_parts_34 : decode cX6_parts 34 = .ok (.iconst 0, 1) := dk_3 (dk_at dksX6_parts_1 10 rfl rfl)
theorem dX6_parts_35 : decode cX6_parts 35 = .ok (.istore 4, 2) := dk_54 4 (dk_at dksX6_parts_1 11 rfl rfl)
theorem dX6_parts_37 : decode cX6_parts 37 = .ok (.iconst 0, 1) := dk_3 (dk_at dksX6_parts_1 13 rfl rfl)
theorem dX6_parts_38 : decode cX6_parts 38 = .ok (.istore 5, 2) := dk_54 5 (dk_at dksX6_parts_1 14 rfl rfl)
theorem dX6_parts_40 : decode cX6_parts 40 = .ok (.iconst 1, 1) := dk_4 (dk_at dksX6_parts_1 16 rfl rfl)
theorem dX6_parts_41 : decode cX6_parts 41 = .ok (.istore 6, 2) := dk_54 6 (dk_at dksX6_parts_1 17 rfl rfl)
theorem dX6_parts_43 : decode cX6_parts 43 = .ok (.iload 6, 2) := dk_21 6 (dk_at dksX6_parts_1 19 rfl rfl)
theorem dX6_parts_45 : decode cX6_parts 45 = .ok (.bipush 100, 2) := dk_16 100 (dk_at dksX6_parts_1 21 rfl rfl)
theorem dX6_parts_47 : decode cX6_parts 47 = .ok (.if_icmp .ge 35, 3) := dk_162 0 35 (dk_at dksX6_parts_2 0 rfl rfl)
theorem dX6_parts_50 : decode cX6_parts 50 = .ok (.aload_n 0, 1) := dk_42 (dk_at dksX6_parts_2 3 rfl rfl)
theorem dX6_parts_51 : decode cX6_parts 51 = .ok (.iload_n 1, 1) := dk_27 (dk_at dksX6_parts_2 4 rfl rfl)
theorem dX6_parts_52 : decode cX6_parts 52 = .ok (.iload_n 2, 1) := dk_28 (dk_at dksX6_parts_2 5 rfl rfl)
theorem dX6_parts_53 : decode cX6_parts 53 = .ok (.i2l, 1) := dk_133 (dk_at dksX6_parts_2 6 rfl rfl)
theorem dX6_parts_54 : decode cX6_parts 54 = .ok (.invokevirtual 375, 3) := dk_182 1 119 (dk_at dksX6_parts_2 7 rfl rfl)
theorem dX6_parts_57 : decode cX6_parts 57 = .ok (.iload 6, 2) := dk_21 6 (dk_at dksX6_parts_2 10 rfl rfl)
theorem dX6_parts_59 : decode cX6_parts 59 = .ok (.i2l, 1) := dk_133 (dk_at dksX6_parts_2 12 rfl rfl)
theorem dX6_parts_60 : decode cX6_parts 60 = .ok (.lrem, 1) := dk_113 (dk_at dksX6_parts_2 13 rfl rfl)
theorem dX6_parts_61 : decode cX6_parts 61 = .ok (.lconst 0, 1) := dk_9 (dk_at dksX6_parts_2 14 rfl rfl)
theorem dX6_parts_62 : decode cX6_parts 62 = .ok (.lcmp, 1) := dk_148 (dk_at dksX6_parts_2 15 rfl rfl)
theorem dX6_parts_63 : decode cX6_parts 63 = .ok (.ifCond .eq 6, 3) := dk_153 0 6 (dk_at dksX6_parts_2 16 rfl rfl)
theorem dX6_parts_66 : decode cX6_parts 66 = .ok (.goto 10, 3) := dk_167 0 10 (dk_at dksX6_parts_2 19 rfl rfl)
theorem dX6_parts_69 : decode cX6_parts 69 = .ok (.iinc 4 1, 3) := dk_132 4 1 (dk_at dksX6_parts_3 0 rfl rfl)
theorem dX6_parts_72 : decode cX6_parts 72 = .ok (.iload 6, 2) := dk_21 6 (dk_at dksX6_parts_3 3 rfl rfl)
theorem dX6_parts_74 : decode cX6_parts 74 = .ok (.istore 5, 2) := dk_54 5 (dk_at dksX6_parts_3 5 rfl rfl)
theorem dX6_parts_76 : decode cX6_parts 76 = .ok (.iinc 6 1, 3) := dk_132 6 1 (dk_at dksX6_parts_3 7 rfl rfl)
theorem dX6_parts_79 : decode cX6_parts 79 = .ok (.goto (-36), 3) := dk_167 255 220 (dk_at dksX6_parts_3 10 rfl rfl)
theorem dX6_parts_82 : decode cX6_parts 82 = .ok (.iload_n 3, 1) := dk_29 (dk_at dksX6_parts_3 13 rfl rfl)
theorem dX6_parts_83 : decode cX6_parts 83 = .ok (.ifCond .ne 8, 3) := dk_154 0 8 (dk_at dksX6_parts_3 14 rfl rfl)
theorem dX6_parts_86 : decode cX6_parts 86 = .ok (.iload 4, 2) := dk_21 4 (dk_at dksX6_parts_3 17 rfl rfl)
theorem dX6_parts_88 : decode cX6_parts 88 = .ok (.goto 5, 3) := dk_167 0 5 (dk_at dksX6_parts_3 19 rfl rfl)
theorem dX6_parts_91 : decode cX6_parts 91 = .ok (.iload 5, 2) := dk_21 5 (dk_at dksX6_parts_3 22 rfl rfl)
theorem dX6_parts_93 : decode cX6_parts 93 = .ok (.ireturn, 1) := dk_172 (dk_at dksX6_parts_4 0 rfl rfl)
abbrev cX6_months : ByteArray := prog_20_method_97_code
def yX6_months : MethodName := ⟨RX6, "months", "(III)I"⟩
def dkwX6_months_3 : List UInt8 := [148, 154, 0, 7, 22, 4, 136, 172, 22, 4, 10, 97, 55, 4, 167, 255, 209, 16, 254, 172]
abbrev dktX6_months_3 : List UInt8 := dkwX6_months_3 ++ []
def dkwX6_months_2 : List UInt8 := [156, 0, 41, 42, 27, 22, 4, 182, 1, 154, 153, 0, 31, 42, 27, 22, 4, 182, 1, 119, 29, 133, 113, 9]
abbrev dktX6_months_2 : List UInt8 := dkwX6_months_2 ++ dktX6_months_3
def dkwX6_months_1 : List UInt8 := [4, 16, 99, 184, 0, 166, 154, 0, 5, 2, 172, 28, 133, 55, 4, 22, 4, 28, 133, 20, 1, 219, 97, 148]
abbrev dktX6_months_1 : List UInt8 := dkwX6_months_1 ++ dktX6_months_2
def dkwX6_months_0 : List UInt8 := [42, 3, 181, 0, 119, 42, 27, 182, 1, 148, 153, 0, 23, 42, 27, 28, 133, 182, 1, 154, 153, 0, 13, 29]
abbrev dktX6_months_0 : List UInt8 := dkwX6_months_0 ++ dktX6_months_1
theorem dksX6_months_0 : cX6_months.data.toList.drop 0 = dktX6_months_0 := by decide +kernel
theorem dksX6_months_1 : cX6_months.data.toList.drop 24 = dktX6_months_1 := dk_seg dksX6_months_0 24 rfl rfl
theorem dksX6_months_2 : cX6_months.data.toList.drop 48 = dktX6_months_2 := dk_seg dksX6_months_1 24 rfl rfl
theorem dksX6_months_3 : cX6_months.data.toList.drop 72 = dktX6_months_3 := dk_seg dksX6_months_2 24 rfl rfl
theorem dX6_months_0 : decode cX6_months 0 = .ok (.aload_n 0, 1) := dk_42 (dk_at dksX6_months_0 0 rfl rfl)
theorem dX6_months_1 : decode cX6_months 1 = .ok (.iconst 0, 1) := dk_3 (dk_at dksX6_months_0 1 rfl rfl)
theorem dX6_months_2 : decode cX6_months 2 = .ok (.putfield 119, 3) := dk_181 0 119 (dk_at dksX6_months_0 2 rfl rfl)
theorem dX6_months_5 : decode cX6_months 5 = .ok (.aload_n 0, 1) := dk_42 (dk_at dksX6_months_0 5 rfl rfl)
theorem dX6_months_6 : decode cX6_months 6 = .ok (.iload_n 1, 1) := dk_27 (dk_at dksX6_months_0 6 rfl rfl)
theorem dX6_months_7 : decode cX6_months 7 = .ok (.invokevirtual 404, 3) := dk_182 1 148 (dk_at dksX6_months_0 7 rfl rfl)
theorem dX6_months_10 : decode cX6_months 10 = .ok (.ifCond .eq 23, 3) := dk_153 0 23 (dk_at dksX6_months_0 10 rfl rfl)
theorem dX6_months_13 : decode cX6_months 13 = .ok (.aload_n 0, 1) := dk_42 (dk_at dksX6_months_0 13 rfl rfl)
theorem dX6_months_14 : decode cX6_months 14 = .ok (.iload_n 1, 1) := dk_27 (dk_at dksX6_months_0 14 rfl rfl)
theorem dX6_months_15 : decode cX6_months 15 = .ok (.iload_n 2, 1) := dk_28 (dk_at dksX6_months_0 15 rfl rfl)
theorem dX6_months_16 : decode cX6_months 16 = .ok (.i2l, 1) := dk_133 (dk_at dksX6_months_0 16 rfl rfl)
theorem dX6_months_17 : decode cX6_months 17 = .ok (.invokevirtual 410, 3) := dk_182 1 154 (dk_at dksX6_months_0 17 rfl rfl)
theorem dX6_months_20 : decode cX6_months 20 = .ok (.ifCond .eq 13, 3) := dk_153 0 13 (dk_at dksX6_months_0 20 rfl rfl)
theorem dX6_months_23 : decode cX6_months 23 = .ok (.iload_n 3, 1) := dk_29 (dk_at dksX6_months_0 23 rfl rfl)
theorem dX6_months_24 : decode cX6_months 24 = .ok (.iconst 1, 1) := dk_4 (dk_at dksX6_months_1 0 rfl rfl)
theorem dX6_months_25 : decode cX6_months 25 = .ok (.bipush 99, 2) := dk_16 99 (dk_at dksX6_months_1 1 rfl rfl)
theorem dX6_months_27 : decode cX6_months 27 = .ok (.invokestatic 166, 3) := dk_184 0 166 (dk_at dksX6_months_1 3 rfl rfl)
theorem dX6_months_30 : decode cX6_months 30 = .ok (.ifCond .ne 5, 3) := dk_154 0 5 (dk_at dksX6_months_1 6 rfl rfl)
theorem dX6_months_33 : decode cX6_months 33 = .ok (.iconst (-1), 1) := dk_2 (dk_at dksX6_months_1 9 rfl rfl)
theorem dX6_months_34 : decode cX6_months 34 = .ok (.ireturn, 1) := dk_172 (dk_at dksX6_months_1 10 rfl rfl)
theorem dX6_months_35 : decode cX6_months 35 = .ok (.iload_n 2, 1) := dk_28 (dk_at dksX6_months_1 11 rfl rfl)
theorem dX6_months_36 : decode cX6_months 36 = .ok (.i2l, 1) := dk_133 (dk_at dksX6_months_1 12 rfl rfl)
theorem dX6_months_37 : decode cX6_months 37 = .ok (.lstore 4, 2) := dk_55 4 (dk_at dksX6_months_1 13 rfl rfl)
theorem dX6_months_39 : decode cX6_months 39 = .ok (.lload 4, 2) := dk_22 4 (dk_at dksX6_months_1 15 rfl rfl)
theorem dX6_months_41 : decode cX6_months 41 = .ok (.iload_n 2, 1) := dk_28 (dk_at dksX6_months_1 17 rfl rfl)
theorem dX6_months_42 : decode cX6_months 42 = .ok (.i2l, 1) := dk_133 (dk_at dksX6_months_1 18 rfl rfl)
theorem dX6_months_43 : decode cX6_months 43 = .ok (.ldc2_w 475, 3) := dk_20 1 219 (dk_at dksX6_months_1 19 rfl rfl)
theorem dX6_months_46 : decode cX6_months 46 = .ok (.ladd, 1) := dk_97 (dk_at dksX6_months_1 22 rfl rfl)
theorem dX6_months_47 : decode cX6_months 47 = .ok (.lcmp, 1) := dk_148 (dk_at dksX6_months_1 23 rfl rfl)
theorem dX6_months_48 : decode cX6_months 48 = .ok (.ifCond .ge 41, 3) := dk_156 0 41 (dk_at dksX6_months_2 0 rfl rfl)
theorem dX6_months_51 : decode cX6_months 51 = .ok (.aload_n 0, 1) := dk_42 (dk_at dksX6_months_2 3 rfl rfl)
theorem dX6_months_52 : decode cX6_months 52 = .ok (.iload_n 1, 1) := dk_27 (dk_at dksX6_months_2 4 rfl rfl)
theorem dX6_months_53 : decode cX6_months 53 = .ok (.lload 4, 2) := dk_22 4 (dk_at dksX6_months_2 5 rfl rfl)
theorem dX6_months_55 : decode cX6_months 55 = .ok (.invokevirtual 410, 3) := dk_182 1 154 (dk_at dksX6_months_2 7 rfl rfl)
theorem dX6_months_58 : decode cX6_months 58 = .ok (.ifCond .eq 31, 3) := dk_153 0 31 (dk_at dksX6_months_2 10 rfl rfl)
theorem dX6_months_61 : decode cX6_months 61 = .ok (.aload_n 0, 1) := dk_42 (dk_at dksX6_months_2 13 rfl rfl)
theorem dX6_months_62 : decode cX6_months 62 = .ok (.iload_n 1, 1) := dk_27 (dk_at dksX6_months_2 14 rfl rfl)
theorem dX6_months_63 : decode cX6_months 63 = .ok (.lload 4, 2) := dk_22 4 (dk_at dksX6_months_2 15 rfl rfl)
theorem dX6_months_65 : decode cX6_months 65 = .ok (.invokevirtual 375, 3) := dk_182 1 119 (dk_at dksX6_months_2 17 rfl rfl)
theorem dX6_months_68 : decode cX6_months 68 = .ok (.iload_n 3, 1) := dk_29 (dk_at dksX6_months_2 20 rfl rfl)
theorem dX6_months_69 : decode cX6_months 69 = .ok (.i2l, 1) := dk_133 (dk_at dksX6_months_2 21 rfl rfl)
theorem dX6_months_70 : decode cX6_months 70 = .ok (.lrem, 1) := dk_113 (dk_at dksX6_months_2 22 rfl rfl)
theorem dX6_months_71 : decode cX6_months 71 = .ok (.lconst 0, 1) := dk_9 (dk_at dksX6_months_2 23 rfl rfl)
theorem dX6_months_72 : decode cX6_months 72 = .ok (.lcmp, 1) := dk_148 (dk_at dksX6_months_3 0 rfl rfl)
theorem dX6_months_73 : decode cX6_months 73 = .ok (.ifCond .ne 7, 3) := dk_154 0 7 (dk_at dksX6_months_3 1 rfl rfl)
theorem dX6_months_76 : decode cX6_months 76 = .ok (.lload 4, 2) := dk_22 4 (dk_at dksX6_months_3 4 rfl rfl)
theorem dX6_months_78 : decode cX6_months 78 = .ok (.l2i, 1) := dk_136 (dk_at dksX6_months_3 6 rfl rfl)
theorem dX6_months_79 : decode cX6_months 79 = .ok (.ireturn, 1) := dk_172 (dk_at dksX6_months_3 7 rfl rfl)
theorem dX6_months_80 : decode cX6_months 80 = .ok (.lload 4, 2) := dk_22 4 (dk_at dksX6_months_3 8 rfl rfl)
theorem dX6_months_82 : decode cX6_months 82 = .ok (.lconst 1, 1) := dk_10 (dk_at dksX6_months_3 10 rfl rfl)
theorem dX6_months_83 : decode cX6_months 83 = .ok (.ladd, 1) := dk_97 (dk_at dksX6_months_3 11 rfl rfl)
theorem dX6_months_84 : decode cX6_months 84 = .ok (.lstore 4, 2) := dk_55 4 (dk_at dksX6_months_3 12 rfl rfl)
theorem dX6_months_86 : decode cX6_months 86 = .ok (.goto (-47), 3) := dk_167 255 209 (dk_at dksX6_months_3 14 rfl rfl)
theorem dX6_months_89 : decode cX6_months 89 = .ok (.bipush (-2), 2) := dk_16 254 (dk_at dksX6_months_3 17 rfl rfl)
theorem dX6_months_91 : decode cX6_months 91 = .ok (.ireturn, 1) := dk_172 (dk_at dksX6_months_3 19 rfl rfl)
abbrev cX6_note : ByteArray := prog_20_method_98_code
def yX6_note : MethodName := ⟨RX6, "note", "()I"⟩
def dkwX6_note_3 : List UInt8 := [96, 181, 0, 249, 42, 180, 0, 229, 4, 100, 172]
abbrev dktX6_note_3 : List UInt8 := dkwX6_note_3 ++ []
def dkwX6_note_2 : List UInt8 := [180, 0, 229, 4, 96, 181, 0, 229, 42, 180, 0, 84, 42, 180, 0, 249, 2, 79, 42, 89, 180, 0, 249, 4]
abbrev dktX6_note_2 : List UInt8 := dkwX6_note_2 ++ dktX6_note_3
def dkwX6_note_1 : List UInt8 := [42, 180, 0, 60, 16, 11, 42, 180, 0, 229, 104, 27, 96, 3, 79, 132, 1, 1, 167, 255, 232, 42, 89]
abbrev dktX6_note_1 : List UInt8 := dkwX6_note_1 ++ dktX6_note_2
def dkwX6_note_0 : List UInt8 := [42, 3, 181, 0, 119, 42, 180, 0, 229, 16, 12, 160, 0, 5, 2, 172, 3, 60, 27, 16, 11, 162, 0, 24]
abbrev dktX6_note_0 : List UInt8 := dkwX6_note_0 ++ dktX6_note_1
theorem dksX6_note_0 : cX6_note.data.toList.drop 0 = dktX6_note_0 := by decide +kernel
theorem dksX6_note_1 : cX6_note.data.toList.drop 24 = dktX6_note_1 := dk_seg dksX6_note_0 24 rfl rfl
theorem dksX6_note_2 : cX6_note.data.toList.drop 47 = dktX6_note_2 := dk_seg dksX6_note_1 23 rfl rfl
theorem dksX6_note_3 : cX6_note.data.toList.drop 71 = dktX6_note_3 := dk_seg dksX6_note_2 24 rfl rfl
theorem dX6_note_0 : decode cX6_note 0 = .ok (.aload_n 0, 1) := dk_42 (dk_at dksX6_note_0 0 rfl rfl)
theorem dX6_note_1 : decode cX6_note 1 = .ok (.iconst 0, 1) := dk_3 (dk_at dksX6_note_0 1 rfl rfl)
theorem dX6_note_2 : decode cX6_note 2 = .ok (.putfield 119, 3) := dk_181 0 119 (dk_at dksX6_note_0 2 rfl rfl)
theorem dX6_note_5 : decode cX6_note 5 = .ok (.aload_n 0, 1) := dk_42 (dk_at dksX6_note_0 5 rfl rfl)
theorem dX6_note_6 : decode cX6_note 6 = .ok (.getfield 229, 3) := dk_180 0 229 (dk_at dksX6_note_0 6 rfl rfl)
theorem dX6_note_9 : decode cX6_note 9 = .ok (.bipush 12, 2) := dk_16 12 (dk_at dksX6_note_0 9 rfl rfl)
theorem dX6_note_11 : decode cX6_note 11 = .ok (.if_icmp .ne 5, 3) := dk_160 0 5 (dk_at dksX6_note_0 11 rfl rfl)
theorem dX6_note_14 : decode cX6_note 14 = .ok (.iconst (-1), 1) := dk_2 (dk_at dksX6_note_0 14 rfl rfl)
theorem dX6_note_15 : decode cX6_note 15 = .ok (.ireturn, 1) := dk_172 (dk_at dksX6_note_0 15 rfl rfl)
theorem dX6_note_16 : decode cX6_note 16 = .ok (.iconst 0, 1) := dk_3 (dk_at dksX6_note_0 16 rfl rfl)
theorem dX6_note_17 : decode cX6_note 17 = .ok (.istore_n 1, 1) := dk_60 (dk_at dksX6_note_0 17 rfl rfl)
theorem dX6_note_18 : decode cX6_note 18 = .ok (.iload_n 1, 1) := dk_27 (dk_at dksX6_note_0 18 rfl rfl)
theorem dX6_note_19 : decode cX6_note 19 = .ok (.bipush 11, 2) := dk_16 11 (dk_at dksX6_note_0 19 rfl rfl)
theorem dX6_note_21 : decode cX6_note 21 = .ok (.if_icmp .ge 24, 3) := dk_162 0 24 (dk_at dksX6_note_0 21 rfl rfl)
theorem dX6_note_24 : decode cX6_note 24 = .ok (.aload_n 0, 1) := dk_42 (dk_at dksX6_note_1 0 rfl rfl)
theorem dX6_note_25 : decode cX6_note 25 = .ok (.getfield 60, 3) := dk_180 0 60 (dk_at dksX6_note_1 1 rfl rfl)
theorem dX6_note_28 : decode cX6_note 28 = .ok (.bipush 11, 2) := dk_16 11 (dk_at dksX6_note_1 4 rfl rfl)
theorem dX6_note_30 : decode cX6_note 30 = .ok (.aload_n 0, 1) := dk_42 (dk_at dksX6_note_1 6 rfl rfl)
theorem dX6_note_31 : decode cX6_note 31 = .ok (.getfield 229, 3) := dk_180 0 229 (dk_at dksX6_note_1 7 rfl rfl)
theorem dX6_note_34 : decode cX6_note 34 = .ok (.imul, 1) := dk_104 (dk_at dksX6_note_1 10 rfl rfl)
theorem dX6_note_35 : decode cX6_note 35 = .ok (.iload_n 1, 1) := dk_27 (dk_at dksX6_note_1 11 rfl rfl)
theorem dX6_note_36 : decode cX6_note 36 = .ok (.iadd, 1) := dk_96 (dk_at dksX6_note_1 12 rfl rfl)
theorem dX6_note_37 : decode cX6_note 37 = .ok (.iconst 0, 1) := dk_3 (dk_at dksX6_note_1 13 rfl rfl)
theorem dX6_note_38 : decode cX6_note 38 = .ok (.iastore, 1) := dk_79 (dk_at dksX6_note_1 14 rfl rfl)
theorem dX6_note_39 : decode cX6_note 39 = .ok (.iinc 1 1, 3) := dk_132 1 1 (dk_at dksX6_note_1 15 rfl rfl)
theorem dX6_note_42 : decode cX6_note 42 = .ok (.goto (-24), 3) := dk_167 255 232 (dk_at dksX6_note_1 18 rfl rfl)
theorem dX6_note_45 : decode cX6_note 45 = .ok (.aload_n 0, 1) := dk_42 (dk_at dksX6_note_1 21 rfl rfl)
theorem dX6_note_46 : decode cX6_note 46 = .ok (.dup, 1) := dk_89 (dk_at dksX6_note_1 22 rfl rfl)
theorem dX6_note_47 : decode cX6_note 47 = .ok (.getfield 229, 3) := dk_180 0 229 (dk_at dksX6_note_2 0 rfl rfl)
theorem dX6_note_50 : decode cX6_note 50 = .ok (.iconst 1, 1) := dk_4 (dk_at dksX6_note_2 3 rfl rfl)
theorem dX6_note_51 : decode cX6_note 51 = .ok (.iadd, 1) := dk_96 (dk_at dksX6_note_2 4 rfl rfl)
theorem dX6_note_52 : decode cX6_note 52 = .ok (.putfield 229, 3) := dk_181 0 229 (dk_at dksX6_note_2 5 rfl rfl)
theorem dX6_note_55 : decode cX6_note 55 = .ok (.aload_n 0, 1) := dk_42 (dk_at dksX6_note_2 8 rfl rfl)
theorem dX6_note_56 : decode cX6_note 56 = .ok (.getfield 84, 3) := dk_180 0 84 (dk_at dksX6_note_2 9 rfl rfl)
theorem dX6_note_59 : decode cX6_note 59 = .ok (.aload_n 0, 1) := dk_42 (dk_at dksX6_note_2 12 rfl rfl)
theorem dX6_note_60 : decode cX6_note 60 = .ok (.getfield 249, 3) := dk_180 0 249 (dk_at dksX6_note_2 13 rfl rfl)
theorem dX6_note_63 : decode cX6_note 63 = .ok (.iconst (-1), 1) := dk_2 (dk_at dksX6_note_2 16 rfl rfl)
theorem dX6_note_64 : decode cX6_note 64 = .ok (.iastore, 1) := dk_79 (dk_at dksX6_note_2 17 rfl rfl)
theorem dX6_note_65 : decode cX6_note 65 = .ok (.aload_n 0, 1) := dk_42 (dk_at dksX6_note_2 18 rfl rfl)
theorem dX6_note_66 : decode cX6_note 66 = .ok (.dup, 1) := dk_89 (dk_at dksX6_note_2 19 rfl rfl)
theorem dX6_note_67 : decode cX6_note 67 = .ok (.getfield 249, 3) := dk_180 0 249 (dk_at dksX6_note_2 20 rfl rfl)
theorem dX6_note_70 : decode cX6_note 70 = .ok (.iconst 1, 1) := dk_4 (dk_at dksX6_note_2 23 rfl rfl)
theorem dX6_note_71 : decode cX6_note 71 = .ok (.iadd, 1) := dk_96 (dk_at dksX6_note_3 0 rfl rfl)
theorem dX6_note_72 : decode cX6_note 72 = .ok (.putfield 249, 3) := dk_181 0 249 (dk_at dksX6_note_3 1 rfl rfl)
theorem dX6_note_75 : decode cX6_note 75 = .ok (.aload_n 0, 1) := dk_42 (dk_at dksX6_note_3 4 rfl rfl)
theorem dX6_note_76 : decode cX6_note 76 = .ok (.getfield 229, 3) := dk_180 0 229 (dk_at dksX6_note_3 5 rfl rfl)
theorem dX6_note_79 : decode cX6_note 79 = .ok (.iconst 1, 1) := dk_4 (dk_at dksX6_note_3 8 rfl rfl)
theorem dX6_note_80 : decode cX6_note 80 = .ok (.isub, 1) := dk_100 (dk_at dksX6_note_3 9 rfl rfl)
theorem dX6_note_81 : decode cX6_note 81 = .ok (.ireturn, 1) := dk_172 (dk_at dksX6_note_3 10 rfl rfl)
abbrev cX6_says : ByteArray := prog_20_method_100_code
def yX6_says : MethodName := ⟨RX6, "says", "(III)Z"⟩
def dkwX6_says_6 : List UInt8 := [96, 181, 0, 249, 4, 172]
abbrev dktX6_says_6 : List UInt8 := dkwX6_says_6 ++ []
def dkwX6_says_5 : List UInt8 := [21, 4, 104, 16, 10, 96, 29, 79, 42, 180, 0, 84, 42, 180, 0, 249, 27, 79, 42, 89, 180, 0, 249, 4]
abbrev dktX6_says_5 : List UInt8 := dkwX6_says_5 ++ dktX6_says_6
def dkwX6_says_4 : List UInt8 := [180, 0, 60, 16, 11, 21, 4, 104, 5, 96, 29, 79, 27, 16, 7, 160, 0, 17, 42, 180, 0, 60, 16, 11]
abbrev dktX6_says_4 : List UInt8 := dkwX6_says_4 ++ dktX6_says_5
def dkwX6_says_3 : List UInt8 := [21, 4, 104, 27, 154, 0, 7, 4, 167, 0, 6, 5, 27, 96, 96, 28, 79, 27, 154, 0, 16, 42]
abbrev dktX6_says_3 : List UInt8 := dkwX6_says_3 ++ dktX6_says_4
def dkwX6_says_2 : List UInt8 := [172, 42, 180, 0, 60, 16, 11, 21, 4, 104, 92, 46, 4, 27, 120, 128, 79, 42, 180, 0, 60, 16, 11]
abbrev dktX6_says_2 : List UInt8 := dkwX6_says_2 ++ dktX6_says_3
def dkwX6_says_1 : List UInt8 := [182, 1, 234, 153, 0, 20, 42, 180, 0, 60, 16, 11, 21, 4, 104, 46, 27, 184, 1, 41, 153, 0, 5, 3]
abbrev dktX6_says_1 : List UInt8 := dkwX6_says_1 ++ dktX6_says_2
def dkwX6_says_0 : List UInt8 := [42, 3, 181, 0, 119, 42, 180, 0, 229, 4, 100, 54, 4, 21, 4, 155, 0, 32, 42, 21, 4, 27, 28, 29]
abbrev dktX6_says_0 : List UInt8 := dkwX6_says_0 ++ dktX6_says_1
theorem dksX6_says_0 : cX6_says.data.toList.drop 0 = dktX6_says_0 := by decide +kernel
theorem dksX6_says_1 : cX6_says.data.toList.drop 24 = dktX6_says_1 := dk_seg dksX6_says_0 24 rfl rfl
theorem dksX6_says_2 : cX6_says.data.toList.drop 48 = dktX6_says_2 := dk_seg dksX6_says_1 24 rfl rfl
theorem dksX6_says_3 : cX6_says.data.toList.drop 71 = dktX6_says_3 := dk_seg dksX6_says_2 23 rfl rfl
theorem dksX6_says_4 : cX6_says.data.toList.drop 93 = dktX6_says_4 := dk_seg dksX6_says_3 22 rfl rfl
theorem dksX6_says_5 : cX6_says.data.toList.drop 117 = dktX6_says_5 := dk_seg dksX6_says_4 24 rfl rfl
theorem dksX6_says_6 : cX6_says.data.toList.drop 141 = dktX6_says_6 := dk_seg dksX6_says_5 24 rfl rfl
theorem dX6_says_0 : decode cX6_says 0 = .ok (.aload_n 0, 1) := dk_42 (dk_at dksX6_says_0 0 rfl rfl)
theorem dX6_says_1 : decode cX6_says 1 = .ok (.iconst 0, 1) := dk_3 (dk_at dksX6_says_0 1 rfl rfl)
theorem dX6_says_2 : decode cX6_says 2 = .ok (.putfield 119, 3) := dk_181 0 119 (dk_at dksX6_says_0 2 rfl rfl)
theorem dX6_says_5 : decode cX6_says 5 = .ok (.aload_n 0, 1) := dk_42 (dk_at dksX6_says_0 5 rfl rfl)
theorem dX6_says_6 : decode cX6_says 6 = .ok (.getfield 229, 3) := dk_180 0 229 (dk_at dksX6_says_0 6 rfl rfl)
theorem dX6_says_9 : decode cX6_says 9 = .ok (.iconst 1, 1) := dk_4 (dk_at dksX6_says_0 9 rfl rfl)
theorem dX6_says_10 : decode cX6_says 10 = .ok (.isub, 1) := dk_100 (dk_at dksX6_says_0 10 rfl rfl)
theorem dX6_says_11 : decode cX6_says 11 = .ok (.istore 4, 2) := dk_54 4 (dk_at dksX6_says_0 11 rfl rfl)
theorem dX6_says_13 : decode cX6_says 13 = .ok (.iload 4, 2) := dk_21 4 (dk_at dksX6_says_0 13 rfl rfl)
theorem dX6_says_15 : decode cX6_says 15 = .ok (.ifCond .lt 32, 3) := dk_155 0 32 (dk_at dksX6_says_0 15 rfl rfl)
theorem dX6_says_18 : decode cX6_says 18 = .ok (.aload_n 0, 1) := dk_42 (dk_at dksX6_says_0 18 rfl rfl)
theorem dX6_says_19 : decode cX6_says 19 = .ok (.iload 4, 2) := dk_21 4 (dk_at dksX6_says_0 19 rfl rfl)
theorem dX6_says_21 : decode cX6_says 21 = .ok (.iload_n 1, 1) := dk_27 (dk_at dksX6_says_0 21 rfl rfl)
theorem dX6_says_22 : decode cX6_says 22 = .ok (.iload_n 2, 1) := dk_28 (dk_at dksX6_says_0 22 rfl rfl)
theorem dX6_says_23 : decode cX6_says 23 = .ok (.iload_n 3, 1) := dk_29 (dk_at dksX6_says_0 23 rfl rfl)
theorem dX6_says_24 : decode cX6_says 24 = .ok (.invokevirtual 490, 3) := dk_182 1 234 (dk_at dksX6_says_1 0 rfl rfl)
theorem dX6_says_27 : decode cX6_says 27 = .ok (.ifCond .eq 20, 3) := dk_153 0 20 (dk_at dksX6_says_1 3 rfl rfl)
theorem dX6_says_30 : decode cX6_says 30 = .ok (.aload_n 0, 1) := dk_42 (dk_at dksX6_says_1 6 rfl rfl)
theorem dX6_says_31 : decode cX6_says 31 = .ok (.getfield 60, 3) := dk_180 0 60 (dk_at dksX6_says_1 7 rfl rfl)
theorem dX6_says_34 : decode cX6_says 34 = .ok (.bipush 11, 2) := dk_16 11 (dk_at dksX6_says_1 10 rfl rfl)
theorem dX6_says_36 : decode cX6_says 36 = .ok (.iload 4, 2) := dk_21 4 (dk_at dksX6_says_1 12 rfl rfl)
theorem dX6_says_38 : decode cX6_says 38 = .ok (.imul, 1) := dk_104 (dk_at dksX6_says_1 14 rfl rfl)
theorem dX6_says_39 : decode cX6_says 39 = .ok (.iaload, 1) := dk_46 (dk_at dksX6_says_1 15 rfl rfl)
theorem dX6_says_40 : decode cX6_says 40 = .ok (.iload_n 1, 1) := dk_27 (dk_at dksX6_says_1 16 rfl rfl)
theorem dX6_says_41 : decode cX6_says 41 = .ok (.invokestatic 297, 3) := dk_184 1 41 (dk_at dksX6_says_1 17 rfl rfl)
theorem dX6_says_44 : decode cX6_says 44 = .ok (.ifCond .eq 5, 3) := dk_153 0 5 (dk_at dksX6_says_1 20 rfl rfl)
theorem dX6_says_47 : decode cX6_says 47 = .ok (.iconst 0, 1) := dk_3 (dk_at dksX6_says_1 23 rfl rfl)
theorem dX6_says_48 : decode cX6_says 48 = .ok (.ireturn, 1) := dk_172 (dk_at dksX6_says_2 0 rfl rfl)
theorem dX6_says_49 : decode cX6_says 49 = .ok (.aload_n 0, 1) := dk_42 (dk_at dksX6_says_2 1 rfl rfl)
theorem dX6_says_50 : decode cX6_says 50 = .ok (.getfield 60, 3) := dk_180 0 60 (dk_at dksX6_says_2 2 rfl rfl)
theorem dX6_says_53 : decode cX6_says 53 = .ok (.bipush 11, 2) := dk_16 11 (dk_at dksX6_says_2 5 rfl rfl)
theorem dX6_says_55 : decode cX6_says 55 = .ok (.iload 4, 2) := dk_21 4 (dk_at dksX6_says_2 7 rfl rfl)
theorem dX6_says_57 : decode cX6_says 57 = .ok (.imul, 1) := dk_104 (dk_at dksX6_says_2 9 rfl rfl)
theorem dX6_says_58 : decode cX6_says 58 = .ok (.dup2, 1) := dk_92 (dk_at dksX6_says_2 10 rfl rfl)
theorem dX6_says_59 : decode cX6_says 59 = .ok (.iaload, 1) := dk_46 (dk_at dksX6_says_2 11 rfl rfl)
theorem dX6_says_60 : decode cX6_says 60 = .ok (.iconst 1, 1) := dk_4 (dk_at dksX6_says_2 12 rfl rfl)
theorem dX6_says_61 : decode cX6_says 61 = .ok (.iload_n 1, 1) := dk_27 (dk_at dksX6_says_2 13 rfl rfl)
theorem dX6_says_62 : decode cX6_says 62 = .ok (.ishl, 1) := dk_120 (dk_at dksX6_says_2 14 rfl rfl)
theorem dX6_says_63 : decode cX6_says 63 = .ok (.ior, 1) := dk_128 (dk_at dksX6_says_2 15 rfl rfl)
theorem dX6_says_64 : decode cX6_says 64 = .ok (.iastore, 1) := dk_79 (dk_at dksX6_says_2 16 rfl rfl)
theorem dX6_says_65 : decode cX6_says 65 = .ok (.aload_n 0, 1) := dk_42 (dk_at dksX6_says_2 17 rfl rfl)
theorem dX6_says_66 : decode cX6_says 66 = .ok (.getfield 60, 3) := dk_180 0 60 (dk_at dksX6_says_2 18 rfl rfl)
theorem dX6_says_69 : decode cX6_says 69 = .ok (.bipush 11, 2) := dk_16 11 (dk_at dksX6_says_2 21 rfl rfl)
theorem dX6_says_71 : decode cX6_says 71 = .ok (.iload 4, 2) := dk_21 4 (dk_at dksX6_says_3 0 rfl rfl)
theorem dX6_says_73 : decode cX6_says 73 = .ok (.imul, 1) := dk_104 (dk_at dksX6_says_3 2 rfl rfl)
theorem dX6_says_74 : decode cX6_says 74 = .ok (.iload_n 1, 1) := dk_27 (dk_at dksX6_says_3 3 rfl rfl)
theorem dX6_says_75 : decode cX6_says 75 = .ok (.ifCond .ne 7, 3) := dk_154 0 7 (dk_at dksX6_says_3 4 rfl rfl)
theorem dX6_says_78 : decode cX6_says 78 = .ok (.iconst 1, 1) := dk_4 (dk_at dksX6_says_3 7 rfl rfl)
theorem dX6_says_79 : decode cX6_says 79 = .ok (.goto 6, 3) := dk_167 0 6 (dk_at dksX6_says_3 8 rfl rfl)
theorem dX6_says_82 : decode cX6_says 82 = .ok (.iconst 2, 1) := dk_5 (dk_at dksX6_says_3 11 rfl rfl)
theorem dX6_says_83 : decode cX6_says 83 = .ok (.iload_n 1, 1) := dk_27 (dk_at dksX6_says_3 12 rfl rfl)
theorem dX6_says_84 : decode cX6_says 84 = .ok (.iadd, 1) := dk_96 (dk_at dksX6_says_3 13 rfl rfl)
theorem dX6_says_85 : decode cX6_says 85 = .ok (.iadd, 1) := dk_96 (dk_at dksX6_says_3 14 rfl rfl)
theorem dX6_says_86 : decode cX6_says 86 = .ok (.iload_n 2, 1) := dk_28 (dk_at dksX6_says_3 15 rfl rfl)
theorem dX6_says_87 : decode cX6_says 87 = .ok (.iastore, 1) := dk_79 (dk_at dksX6_says_3 16 rfl rfl)
theorem dX6_says_88 : decode cX6_says 88 = .ok (.iload_n 1, 1) := dk_27 (dk_at dksX6_says_3 17 rfl rfl)
theorem dX6_says_89 : decode cX6_says 89 = .ok (.ifCond .ne 16, 3) := dk_154 0 16 (dk_at dksX6_says_3 18 rfl rfl)
theorem dX6_says_92 : decode cX6_says 92 = .ok (.aload_n 0, 1) := dk_42 (dk_at dksX6_says_3 21 rfl rfl)
theorem dX6_says_93 : decode cX6_says 93 = .ok (.getfield 60, 3) := dk_180 0 60 (dk_at dksX6_says_4 0 rfl rfl)
theorem dX6_says_96 : decode cX6_says 96 = .ok (.bipush 11, 2) := dk_16 11 (dk_at dksX6_says_4 3 rfl rfl)
theorem dX6_says_98 : decode cX6_says 98 = .ok (.iload 4, 2) := dk_21 4 (dk_at dksX6_says_4 5 rfl rfl)
theorem dX6_says_100 : decode cX6_says 100 = .ok (.imul, 1) := dk_104 (dk_at dksX6_says_4 7 rfl rfl)
theorem dX6_says_101 : decode cX6_says 101 = .ok (.iconst 2, 1) := dk_5 (dk_at dksX6_says_4 8 rfl rfl)
theorem dX6_says_102 : decode cX6_says 102 = .ok (.iadd, 1) := dk_96 (dk_at dksX6_says_4 9 rfl rfl)
theorem dX6_says_103 : decode cX6_says 103 = .ok (.iload_n 3, 1) := dk_29 (dk_at dksX6_says_4 10 rfl rfl)
theorem dX6_says_104 : decode cX6_says 104 = .ok (.iastore, 1) := dk_79 (dk_at dksX6_says_4 11 rfl rfl)
theorem dX6_says_105 : decode cX6_says 105 = .ok (.iload_n 1, 1) := dk_27 (dk_at dksX6_says_4 12 rfl rfl)
theorem dX6_says_106 : decode cX6_says 106 = .ok (.bipush 7, 2) := dk_16 7 (dk_at dksX6_says_4 13 rfl rfl)
theorem dX6_says_108 : decode cX6_says 108 = .ok (.if_icmp .ne 17, 3) := dk_160 0 17 (dk_at dksX6_says_4 15 rfl rfl)
theorem dX6_says_111 : decode cX6_says 111 = .ok (.aload_n 0, 1) := dk_42 (dk_at dksX6_says_4 18 rfl rfl)
theorem dX6_says_112 : decode cX6_says 112 = .ok (.getfield 60, 3) := dk_180 0 60 (dk_at dksX6_says_4 19 rfl rfl)
theorem dX6_says_115 : decode cX6_says 115 = .ok (.bipush 11, 2) := dk_16 11 (dk_at dksX6_says_4 22 rfl rfl)
theorem dX6_says_117 : decode cX6_says 117 = .ok (.iload 4, 2) := dk_21 4 (dk_at dksX6_says_5 0 rfl rfl)
theorem dX6_says_119 : decode cX6_says 119 = .ok (.imul, 1) := dk_104 (dk_at dksX6_says_5 2 rfl rfl)
theorem dX6_says_120 : decode cX6_says 120 = .ok (.bipush 10, 2) := dk_16 10 (dk_at dksX6_says_5 3 rfl rfl)
theorem dX6_says_122 : decode cX6_says 122 = .ok (.iadd, 1) := dk_96 (dk_at dksX6_says_5 5 rfl rfl)
theorem dX6_says_123 : decode cX6_says 123 = .ok (.iload_n 3, 1) := dk_29 (dk_at dksX6_says_5 6 rfl rfl)
theorem dX6_says_124 : decode cX6_says 124 = .ok (.iastore, 1) := dk_79 (dk_at dksX6_says_5 7 rfl rfl)
theorem dX6_says_125 : decode cX6_says 125 = .ok (.aload_n 0, 1) := dk_42 (dk_at dksX6_says_5 8 rfl rfl)
theorem dX6_says_126 : decode cX6_says 126 = .ok (.getfield 84, 3) := dk_180 0 84 (dk_at dksX6_says_5 9 rfl rfl)
theorem dX6_says_129 : decode cX6_says 129 = .ok (.aload_n 0, 1) := dk_42 (dk_at dksX6_says_5 12 rfl rfl)
theorem dX6_says_130 : decode cX6_says 130 = .ok (.getfield 249, 3) := dk_180 0 249 (dk_at dksX6_says_5 13 rfl rfl)
theorem dX6_says_133 : decode cX6_says 133 = .ok (.iload_n 1, 1) := dk_27 (dk_at dksX6_says_5 16 rfl rfl)
theorem dX6_says_134 : decode cX6_says 134 = .ok (.iastore, 1) := dk_79 (dk_at dksX6_says_5 17 rfl rfl)
theorem dX6_says_135 : decode cX6_says 135 = .ok (.aload_n 0, 1) := dk_42 (dk_at dksX6_says_5 18 rfl rfl)
theorem dX6_says_136 : decode cX6_says 136 = .ok (.dup, 1) := dk_89 (dk_at dksX6_says_5 19 rfl rfl)
theorem dX6_says_137 : decode cX6_says 137 = .ok (.getfield 249, 3) := dk_180 0 249 (dk_at dksX6_says_5 20 rfl rfl)
theorem dX6_says_140 : decode cX6_says 140 = .ok (.iconst 1, 1) := dk_4 (dk_at dksX6_says_5 23 rfl rfl)
theorem dX6_says_141 : decode cX6_says 141 = .ok (.iadd, 1) := dk_96 (dk_at dksX6_says_6 0 rfl rfl)
theorem dX6_says_142 : decode cX6_says 142 = .ok (.putfield 249, 3) := dk_181 0 249 (dk_at dksX6_says_6 1 rfl rfl)
theorem dX6_says_145 : decode cX6_says 145 = .ok (.iconst 1, 1) := dk_4 (dk_at dksX6_says_6 4 rfl rfl)
theorem dX6_says_146 : decode cX6_says 146 = .ok (.ireturn, 1) := dk_172 (dk_at dksX6_says_6 5 rfl rfl)
abbrev cX6_canSay : ByteArray := prog_20_method_99_code
def yX6_canSay : MethodName := ⟨RX6, "canSay", "(IIII)Z"⟩
def dkwX6_canSay_6 : List UInt8 := [153, 0, 7, 4, 167, 0, 4, 3, 172, 3, 172]
abbrev dktX6_canSay_6 : List UInt8 := dkwX6_canSay_6 ++ []
def dkwX6_canSay_5 : List UInt8 := [172, 29, 3, 27, 4, 100, 184, 0, 166, 153, 0, 21, 21, 4, 17, 216, 241, 17, 39, 15, 184, 0, 166]
abbrev dktX6_canSay_5 : List UInt8 := dkwX6_canSay_5 ++ dktX6_canSay_6
def dkwX6_canSay_4 : List UInt8 := [16, 7, 184, 0, 166, 172, 29, 3, 6, 184, 0, 166, 172, 42, 29, 182, 1, 207, 172, 42, 29, 182, 1, 192]
abbrev dktX6_canSay_4 : List UInt8 := dkwX6_canSay_4 ++ dktX6_canSay_5
def dkwX6_canSay_3 : List UInt8 := [167, 0, 4, 3, 172, 29, 4, 18, 159, 184, 0, 166, 172, 29, 3, 18, 159, 184, 0, 166, 172, 29, 3]
abbrev dktX6_canSay_3 : List UInt8 := dkwX6_canSay_3 ++ dktX6_canSay_4
def dkwX6_canSay_2 : List UInt8 := [29, 4, 17, 39, 15, 184, 0, 166, 153, 0, 19, 21, 4, 29, 17, 39, 15, 184, 0, 166, 153, 0, 7, 4]
abbrev dktX6_canSay_2 : List UInt8 := dkwX6_canSay_2 ++ dktX6_canSay_3
def dkwX6_canSay_1 : List UInt8 := [170, 0, 0, 0, 0, 0, 150, 0, 0, 0, 0, 0, 0, 0, 7, 0, 0, 0, 47, 0, 0, 0, 76, 0, 0, 0, 84, 0, 0, 0, 92, 0, 0, 0, 100, 0, 0, 0, 107, 0, 0, 0, 113, 0, 0, 0, 119]
abbrev dktX6_canSay_1 : List UInt8 := dkwX6_canSay_1 ++ dktX6_canSay_2
def dkwX6_canSay_0 : List UInt8 := [28]
abbrev dktX6_canSay_0 : List UInt8 := dkwX6_canSay_0 ++ dktX6_canSay_1
theorem dksX6_canSay_0 : cX6_canSay.data.toList.drop 0 = dktX6_canSay_0 := by decide +kernel
theorem dksX6_canSay_1 : cX6_canSay.data.toList.drop 1 = dktX6_canSay_1 := dk_seg dksX6_canSay_0 1 rfl rfl
theorem dksX6_canSay_2 : cX6_canSay.data.toList.drop 48 = dktX6_canSay_2 := dk_seg dksX6_canSay_1 47 rfl rfl
theorem dksX6_canSay_3 : cX6_canSay.data.toList.drop 72 = dktX6_canSay_3 := dk_seg dksX6_canSay_2 24 rfl rfl
theorem dksX6_canSay_4 : cX6_canSay.data.toList.drop 95 = dktX6_canSay_4 := dk_seg dksX6_canSay_3 23 rfl rfl
theorem dksX6_canSay_5 : cX6_canSay.data.toList.drop 119 = dktX6_canSay_5 := dk_seg dksX6_canSay_4 24 rfl rfl
theorem dksX6_canSay_6 : cX6_canSay.data.toList.drop 142 = dktX6_canSay_6 := dk_seg dksX6_canSay_5 23 rfl rfl
theorem dX6_canSay_0 : decode cX6_canSay 0 = .ok (.iload_n 2, 1) := dk_28 (dk_at dksX6_canSay_0 0 rfl rfl)
theorem dX6_canSay_1 : decode cX6_canSay 1 = .ok (.tableswitch 150 0 7 #[47, 76, 84, 92, 100, 107, 113, 119], 47) := by decide +kernel
theorem dX6_canSay_48 : decode cX6_canSay 48 = .ok (.iload_n 3, 1) := dk_29 (dk_at dksX6_canSay_2 0 rfl rfl)
theorem dX6_canSay_49 : decode cX6_canSay 49 = .ok (.iconst 1, 1) := dk_4 (dk_at dksX6_canSay_2 1 rfl rfl)
theorem dX6_canSay_50 : decode cX6_canSay 50 = .ok (.sipush 9999, 3) := dk_17 39 15 (dk_at dksX6_canSay_2 2 rfl rfl)
theorem dX6_canSay_53 : decode cX6_canSay 53 = .ok (.invokestatic 166, 3) := dk_184 0 166 (dk_at dksX6_canSay_2 5 rfl rfl)
theorem dX6_canSay_56 : decode cX6_canSay 56 = .ok (.ifCond .eq 19, 3) := dk_153 0 19 (dk_at dksX6_canSay_2 8 rfl rfl)
theorem dX6_canSay_59 : decode cX6_canSay 59 = .ok (.iload 4, 2) := dk_21 4 (dk_at dksX6_canSay_2 11 rfl rfl)
theorem dX6_canSay_61 : decode cX6_canSay 61 = .ok (.iload_n 3, 1) := dk_29 (dk_at dksX6_canSay_2 13 rfl rfl)
theorem dX6_canSay_62 : decode cX6_canSay 62 = .ok (.sipush 9999, 3) := dk_17 39 15 (dk_at dksX6_canSay_2 14 rfl rfl)
theorem dX6_canSay_65 : decode cX6_canSay 65 = .ok (.invokestatic 166, 3) := dk_184 0 166 (dk_at dksX6_canSay_2 17 rfl rfl)
theorem dX6_canSay_68 : decode cX6_canSay 68 = .ok (.ifCond .eq 7, 3) := dk_153 0 7 (dk_at dksX6_canSay_2 20 rfl rfl)
theorem dX6_canSay_71 : decode cX6_canSay 71 = .ok (.iconst 1, 1) := dk_4 (dk_at dksX6_canSay_2 23 rfl rfl)
theorem dX6_canSay_72 : decode cX6_canSay 72 = .ok (.goto 4, 3) := dk_167 0 4 (dk_at dksX6_canSay_3 0 rfl rfl)
theorem dX6_canSay_75 : decode cX6_canSay 75 = .ok (.iconst 0, 1) := dk_3 (dk_at dksX6_canSay_3 3 rfl rfl)
theorem dX6_canSay_76 : decode cX6_canSay 76 = .ok (.ireturn, 1) := dk_172 (dk_at dksX6_canSay_3 4 rfl rfl)
theorem dX6_canSay_77 : decode cX6_canSay 77 = .ok (.iload_n 3, 1) := dk_29 (dk_at dksX6_canSay_3 5 rfl rfl)
theorem dX6_canSay_78 : decode cX6_canSay 78 = .ok (.iconst 1, 1) := dk_4 (dk_at dksX6_canSay_3 6 rfl rfl)
theorem dX6_canSay_79 : decode cX6_canSay 79 = .ok (.ldc 159, 2) := dk_18 159 (dk_at dksX6_canSay_3 7 rfl rfl)
theorem dX6_canSay_81 : decode cX6_canSay 81 = .ok (.invokestatic 166, 3) := dk_184 0 166 (dk_at dksX6_canSay_3 9 rfl rfl)
theorem dX6_canSay_84 : decode cX6_canSay 84 = .ok (.ireturn, 1) := dk_172 (dk_at dksX6_canSay_3 12 rfl rfl)
theorem dX6_canSay_85 : decode cX6_canSay 85 = .ok (.iload_n 3, 1) := dk_29 (dk_at dksX6_canSay_3 13 rfl rfl)
theorem dX6_canSay_86 : decode cX6_canSay 86 = .ok (.iconst 0, 1) := dk_3 (dk_at dksX6_canSay_3 14 rfl rfl)
theorem dX6_canSay_87 : decode cX6_canSay 87 = .ok (.ldc 159, 2) := dk_18 159 (dk_at dksX6_canSay_3 15 rfl rfl)
theorem dX6_canSay_89 : decode cX6_canSay 89 = .ok (.invokestatic 166, 3) := dk_184 0 166 (dk_at dksX6_canSay_3 17 rfl rfl)
theorem dX6_canSay_92 : decode cX6_canSay 92 = .ok (.ireturn, 1) := dk_172 (dk_at dksX6_canSay_3 20 rfl rfl)
theorem dX6_canSay_93 : decode cX6_canSay 93 = .ok (.iload_n 3, 1) := dk_29 (dk_at dksX6_canSay_3 21 rfl rfl)
theorem dX6_canSay_94 : decode cX6_canSay 94 = .ok (.iconst 0, 1) := dk_3 (dk_at dksX6_canSay_3 22 rfl rfl)
theorem dX6_canSay_95 : decode cX6_canSay 95 = .ok (.bipush 7, 2) := dk_16 7 (dk_at dksX6_canSay_4 0 rfl rfl)
theorem dX6_canSay_97 : decode cX6_canSay 97 = .ok (.invokestatic 166, 3) := dk_184 0 166 (dk_at dksX6_canSay_4 2 rfl rfl)
theorem dX6_canSay_100 : decode cX6_canSay 100 = .ok (.ireturn, 1) := dk_172 (dk_at dksX6_canSay_4 5 rfl rfl)
theorem dX6_canSay_101 : decode cX6_canSay 101 = .ok (.iload_n 3, 1) := dk_29 (dk_at dksX6_canSay_4 6 rfl rfl)
theorem dX6_canSay_102 : decode cX6_canSay 102 = .ok (.iconst 0, 1) := dk_3 (dk_at dksX6_canSay_4 7 rfl rfl)
theorem dX6_canSay_103 : decode cX6_canSay 103 = .ok (.iconst 3, 1) := dk_6 (dk_at dksX6_canSay_4 8 rfl rfl)
theorem dX6_canSay_104 : decode cX6_canSay 104 = .ok (.invokestatic 166, 3) := dk_184 0 166 (dk_at dksX6_canSay_4 9 rfl rfl)
theorem dX6_canSay_107 : decode cX6_canSay 107 = .ok (.ireturn, 1) := dk_172 (dk_at dksX6_canSay_4 12 rfl rfl)
theorem dX6_canSay_108 : decode cX6_canSay 108 = .ok (.aload_n 0, 1) := dk_42 (dk_at dksX6_canSay_4 13 rfl rfl)
theorem dX6_canSay_109 : decode cX6_canSay 109 = .ok (.iload_n 3, 1) := dk_29 (dk_at dksX6_canSay_4 14 rfl rfl)
theorem dX6_canSay_110 : decode cX6_canSay 110 = .ok (.invokevirtual 463, 3) := dk_182 1 207 (dk_at dksX6_canSay_4 15 rfl rfl)
theorem dX6_canSay_113 : decode cX6_canSay 113 = .ok (.ireturn, 1) := dk_172 (dk_at dksX6_canSay_4 18 rfl rfl)
theorem dX6_canSay_114 : decode cX6_canSay 114 = .ok (.aload_n 0, 1) := dk_42 (dk_at dksX6_canSay_4 19 rfl rfl)
theorem dX6_canSay_115 : decode cX6_canSay 115 = .ok (.iload_n 3, 1) := dk_29 (dk_at dksX6_canSay_4 20 rfl rfl)
theorem dX6_canSay_116 : decode cX6_canSay 116 = .ok (.invokevirtual 448, 3) := dk_182 1 192 (dk_at dksX6_canSay_4 21 rfl rfl)
theorem dX6_canSay_119 : decode cX6_canSay 119 = .ok (.ireturn, 1) := dk_172 (dk_at dksX6_canSay_5 0 rfl rfl)
theorem dX6_canSay_120 : decode cX6_canSay 120 = .ok (.iload_n 3, 1) := dk_29 (dk_at dksX6_canSay_5 1 rfl rfl)
theorem dX6_canSay_121 : decode cX6_canSay 121 = .ok (.iconst 0, 1) := dk_3 (dk_at dksX6_canSay_5 2 rfl rfl)
theorem dX6_canSay_122 : decode cX6_canSay 122 = .ok (.iload_n 1, 1) := dk_27 (dk_at dksX6_canSay_5 3 rfl rfl)
theorem dX6_canSay_123 : decode cX6_canSay 123 = .ok (.iconst 1, 1) := dk_4 (dk_at dksX6_canSay_5 4 rfl rfl)
theorem dX6_canSay_124 : decode cX6_canSay 124 = .ok (.isub, 1) := dk_100 (dk_at dksX6_canSay_5 5 rfl rfl)
theorem dX6_canSay_125 : decode cX6_canSay 125 = .ok (.invokestatic 166, 3) := dk_184 0 166 (dk_at dksX6_canSay_5 6 rfl rfl)
theorem dX6_canSay_128 : decode cX6_canSay 128 = .ok (.ifCond .eq 21, 3) := dk_153 0 21 (dk_at dksX6_canSay_5 9 rfl rfl)
theorem dX6_canSay_131 : decode cX6_canSay 131 = .ok (.iload 4, 2) := dk_21 4 (dk_at dksX6_canSay_5 12 rfl rfl)
theorem dX6_canSay_133 : decode cX6_canSay 133 = .ok (.sipush (-9999), 3) := dk_17 216 241 (dk_at dksX6_canSay_5 14 rfl rfl)
theorem dX6_canSay_136 : decode cX6_canSay 136 = .ok (.sipush 9999, 3) := dk_17 39 15 (dk_at dksX6_canSay_5 17 rfl rfl)
theorem dX6_canSay_139 : decode cX6_canSay 139 = .ok (.invokestatic 166, 3) := dk_184 0 166 (dk_at dksX6_canSay_5 20 rfl rfl)
theorem dX6_canSay_142 : decode cX6_canSay 142 = .ok (.ifCond .eq 7, 3) := dk_153 0 7 (dk_at dksX6_canSay_6 0 rfl rfl)
theorem dX6_canSay_145 : decode cX6_canSay 145 = .ok (.iconst 1, 1) := dk_4 (dk_at dksX6_canSay_6 3 rfl rfl)
theorem dX6_canSay_146 : decode cX6_canSay 146 = .ok (.goto 4, 3) := dk_167 0 4 (dk_at dksX6_canSay_6 4 rfl rfl)
theorem dX6_canSay_149 : decode cX6_canSay 149 = .ok (.iconst 0, 1) := dk_3 (dk_at dksX6_canSay_6 7 rfl rfl)
theorem dX6_canSay_150 : decode cX6_canSay 150 = .ok (.ireturn, 1) := dk_172 (dk_at dksX6_canSay_6 8 rfl rfl)
theorem dX6_canSay_151 : decode cX6_canSay 151 = .ok (.iconst 0, 1) := dk_3 (dk_at dksX6_canSay_6 9 rfl rfl)
theorem dX6_canSay_152 : decode cX6_canSay 152 = .ok (.ireturn, 1) := dk_172 (dk_at dksX6_canSay_6 10 rfl rfl)
abbrev cX6_undo : ByteArray := prog_20_method_101_code
def yX6_undo : MethodName := ⟨RX6, "undo", "()I"⟩
def dkwX6_undo_3 : List UInt8 := [42, 180, 0, 249, 46, 120, 2, 130, 126, 79, 42, 180, 0, 249, 172]
abbrev dktX6_undo_3 : List UInt8 := dkwX6_undo_3 ++ []
def dkwX6_undo_2 : List UInt8 := [167, 0, 34, 42, 180, 0, 60, 16, 11, 42, 180, 0, 229, 104, 16, 11, 100, 92, 46, 4, 42, 180, 0, 84]
abbrev dktX6_undo_2 : List UInt8 := dkwX6_undo_2 ++ dktX6_undo_3
def dkwX6_undo_1 : List UInt8 := [42, 180, 0, 84, 42, 180, 0, 249, 46, 156, 0, 16, 42, 89, 180, 0, 229, 4, 100, 181, 0, 229]
abbrev dktX6_undo_1 : List UInt8 := dkwX6_undo_1 ++ dktX6_undo_2
def dkwX6_undo_0 : List UInt8 := [42, 3, 181, 0, 119, 42, 180, 0, 249, 154, 0, 5, 2, 172, 42, 89, 180, 0, 249, 4, 100, 181, 0, 249]
abbrev dktX6_undo_0 : List UInt8 := dkwX6_undo_0 ++ dktX6_undo_1
theorem dksX6_undo_0 : cX6_undo.data.toList.drop 0 = dktX6_undo_0 := by decide +kernel
theorem dksX6_undo_1 : cX6_undo.data.toList.drop 24 = dktX6_undo_1 := dk_seg dksX6_undo_0 24 rfl rfl
theorem dksX6_undo_2 : cX6_undo.data.toList.drop 46 = dktX6_undo_2 := dk_seg dksX6_undo_1 22 rfl rfl
theorem dksX6_undo_3 : cX6_undo.data.toList.drop 70 = dktX6_undo_3 := dk_seg dksX6_undo_2 24 rfl rfl
theorem dX6_undo_0 : decode cX6_undo 0 = .ok (.aload_n 0, 1) := dk_42 (dk_at dksX6_undo_0 0 rfl rfl)
theorem dX6_undo_1 : decode cX6_undo 1 = .ok (.iconst 0, 1) := dk_3 (dk_at dksX6_undo_0 1 rfl rfl)
theorem dX6_undo_2 : decode cX6_undo 2 = .ok (.putfield 119, 3) := dk_181 0 119 (dk_at dksX6_undo_0 2 rfl rfl)
theorem dX6_undo_5 : decode cX6_undo 5 = .ok (.aload_n 0, 1) := dk_42 (dk_at dksX6_undo_0 5 rfl rfl)
theorem dX6_undo_6 : decode cX6_undo 6 = .ok (.getfield 249, 3) := dk_180 0 249 (dk_at dksX6_undo_0 6 rfl rfl)
theorem dX6_undo_9 : decode cX6_undo 9 = .ok (.ifCond .ne 5, 3) := dk_154 0 5 (dk_at dksX6_undo_0 9 rfl rfl)
theorem dX6_undo_12 : decode cX6_undo 12 = .ok (.iconst (-1), 1) := dk_2 (dk_at dksX6_undo_0 12 rfl rfl)
theorem dX6_undo_13 : decode cX6_undo 13 = .ok (.ireturn, 1) := dk_172 (dk_at dksX6_undo_0 13 rfl rfl)
theorem dX6_undo_14 : decode cX6_undo 14 = .ok (.aload_n 0, 1) := dk_42 (dk_at dksX6_undo_0 14 rfl rfl)
theorem dX6_undo_15 : decode cX6_undo 15 = .ok (.dup, 1) := dk_89 (dk_at dksX6_undo_0 15 rfl rfl)
theorem dX6_undo_16 : decode cX6_undo 16 = .ok (.getfield 249, 3) := dk_180 0 249 (dk_at dksX6_undo_0 16 rfl rfl)
theorem dX6_undo_19 : decode cX6_undo 19 = .ok (.iconst 1, 1) := dk_4 (dk_at dksX6_undo_0 19 rfl rfl)
theorem dX6_undo_20 : decode cX6_undo 20 = .ok (.isub, 1) := dk_100 (dk_at dksX6_undo_0 20 rfl rfl)
theorem dX6_undo_21 : decode cX6_undo 21 = .ok (.putfield 249, 3) := dk_181 0 249 (dk_at dksX6_undo_0 21 rfl rfl)
theorem dX6_undo_24 : decode cX6_undo 24 = .ok (.aload_n 0, 1) := dk_42 (dk_at dksX6_undo_1 0 rfl rfl)
theorem dX6_undo_25 : decode cX6_undo 25 = .ok (.getfield 84, 3) := dk_180 0 84 (dk_at dksX6_undo_1 1 rfl rfl)
theorem dX6_undo_28 : decode cX6_undo 28 = .ok (.aload_n 0, 1) := dk_42 (dk_at dksX6_undo_1 4 rfl rfl)
theorem dX6_undo_29 : decode cX6_undo 29 = .ok (.getfield 249, 3) := dk_180 0 249 (dk_at dksX6_undo_1 5 rfl rfl)
theorem dX6_undo_32 : decode cX6_undo 32 = .ok (.iaload, 1) := dk_46 (dk_at dksX6_undo_1 8 rfl rfl)
theorem dX6_undo_33 : decode cX6_undo 33 = .ok (.ifCond .ge 16, 3) := dk_156 0 16 (dk_at dksX6_undo_1 9 rfl rfl)
theorem dX6_undo_36 : decode cX6_undo 36 = .ok (.aload_n 0, 1) := dk_42 (dk_at dksX6_undo_1 12 rfl rfl)
theorem dX6_undo_37 : decode cX6_undo 37 = .ok (.dup, 1) := dk_89 (dk_at dksX6_undo_1 13 rfl rfl)
theorem dX6_undo_38 : decode cX6_undo 38 = .ok (.getfield 229, 3) := dk_180 0 229 (dk_at dksX6_undo_1 14 rfl rfl)
theorem dX6_undo_41 : decode cX6_undo 41 = .ok (.iconst 1, 1) := dk_4 (dk_at dksX6_undo_1 17 rfl rfl)
theorem dX6_undo_42 : decode cX6_undo 42 = .ok (.isub, 1) := dk_100 (dk_at dksX6_undo_1 18 rfl rfl)
theorem dX6_undo_43 : decode cX6_undo 43 = .ok (.putfield 229, 3) := dk_181 0 229 (dk_at dksX6_undo_1 19 rfl rfl)
theorem dX6_undo_46 : decode cX6_undo 46 = .ok (.goto 34, 3) := dk_167 0 34 (dk_at dksX6_undo_2 0 rfl rfl)
theorem dX6_undo_49 : decode cX6_undo 49 = .ok (.aload_n 0, 1) := dk_42 (dk_at dksX6_undo_2 3 rfl rfl)
theorem dX6_undo_50 : decode cX6_undo 50 = .ok (.getfield 60, 3) := dk_180 0 60 (dk_at dksX6_undo_2 4 rfl rfl)
theorem dX6_undo_53 : decode cX6_undo 53 = .ok (.bipush 11, 2) := dk_16 11 (dk_at dksX6_undo_2 7 rfl rfl)
theorem dX6_undo_55 : decode cX6_undo 55 = .ok (.aload_n 0, 1) := dk_42 (dk_at dksX6_undo_2 9 rfl rfl)
theorem dX6_undo_56 : decode cX6_undo 56 = .ok (.getfield 229, 3) := dk_180 0 229 (dk_at dksX6_undo_2 10 rfl rfl)
theorem dX6_undo_59 : decode cX6_undo 59 = .ok (.imul, 1) := dk_104 (dk_at dksX6_undo_2 13 rfl rfl)
theorem dX6_undo_60 : decode cX6_undo 60 = .ok (.bipush 11, 2) := dk_16 11 (dk_at dksX6_undo_2 14 rfl rfl)
theorem dX6_undo_62 : decode cX6_undo 62 = .ok (.isub, 1) := dk_100 (dk_at dksX6_undo_2 16 rfl rfl)
theorem dX6_undo_63 : decode cX6_undo 63 = .ok (.dup2, 1) := dk_92 (dk_at dksX6_undo_2 17 rfl rfl)
theorem dX6_undo_64 : decode cX6_undo 64 = .ok (.iaload, 1) := dk_46 (dk_at dksX6_undo_2 18 rfl rfl)
theorem dX6_undo_65 : decode cX6_undo 65 = .ok (.iconst 1, 1) := dk_4 (dk_at dksX6_undo_2 19 rfl rfl)
theorem dX6_undo_66 : decode cX6_undo 66 = .ok (.aload_n 0, 1) := dk_42 (dk_at dksX6_undo_2 20 rfl rfl)
theorem dX6_undo_67 : decode cX6_undo 67 = .ok (.getfield 84, 3) := dk_180 0 84 (dk_at dksX6_undo_2 21 rfl rfl)
theorem dX6_undo_70 : decode cX6_undo 70 = .ok (.aload_n 0, 1) := dk_42 (dk_at dksX6_undo_3 0 rfl rfl)
theorem dX6_undo_71 : decode cX6_undo 71 = .ok (.getfield 249, 3) := dk_180 0 249 (dk_at dksX6_undo_3 1 rfl rfl)
theorem dX6_undo_74 : decode cX6_undo 74 = .ok (.iaload, 1) := dk_46 (dk_at dksX6_undo_3 4 rfl rfl)
theorem dX6_undo_75 : decode cX6_undo 75 = .ok (.ishl, 1) := dk_120 (dk_at dksX6_undo_3 5 rfl rfl)
theorem dX6_undo_76 : decode cX6_undo 76 = .ok (.iconst (-1), 1) := dk_2 (dk_at dksX6_undo_3 6 rfl rfl)
theorem dX6_undo_77 : decode cX6_undo 77 = .ok (.ixor, 1) := dk_130 (dk_at dksX6_undo_3 7 rfl rfl)
theorem dX6_undo_78 : decode cX6_undo 78 = .ok (.iand, 1) := dk_126 (dk_at dksX6_undo_3 8 rfl rfl)
theorem dX6_undo_79 : decode cX6_undo 79 = .ok (.iastore, 1) := dk_79 (dk_at dksX6_undo_3 9 rfl rfl)
theorem dX6_undo_80 : decode cX6_undo 80 = .ok (.aload_n 0, 1) := dk_42 (dk_at dksX6_undo_3 10 rfl rfl)
theorem dX6_undo_81 : decode cX6_undo 81 = .ok (.getfield 249, 3) := dk_180 0 249 (dk_at dksX6_undo_3 11 rfl rfl)
theorem dX6_undo_84 : decode cX6_undo 84 = .ok (.ireturn, 1) := dk_172 (dk_at dksX6_undo_3 14 rfl rfl)
abbrev cX6_alone : ByteArray := prog_20_method_106_code
def yX6_alone : MethodName := ⟨RX6, "alone", "(II)I"⟩
def dkwX6_alone_4 : List UInt8 := [181, 1, 247, 132, 3, 1, 167, 255, 201, 42, 28, 182, 2, 0, 172]
abbrev dktX6_alone_4 : List UInt8 := dkwX6_alone_4 ++ []
def dkwX6_alone_3 : List UInt8 := [42, 89, 180, 1, 241, 4, 96, 181, 1, 241, 42, 180, 1, 244, 156, 0, 8, 42, 29, 181, 1, 244, 42, 29]
abbrev dktX6_alone_3 : List UInt8 := dkwX6_alone_3 ++ dktX6_alone_4
def dkwX6_alone_2 : List UInt8 := [17, 78, 32, 162, 0, 54, 42, 180, 0, 88, 17, 78, 32, 27, 104, 29, 96, 51, 154, 0, 6, 167, 0, 30]
abbrev dktX6_alone_2 : List UInt8 := dkwX6_alone_2 ++ dktX6_alone_3
def dkwX6_alone_1 : List UInt8 := [42, 27, 182, 1, 253, 42, 3, 181, 1, 241, 42, 2, 181, 1, 244, 42, 2, 181, 1, 247, 3, 62, 29]
abbrev dktX6_alone_1 : List UInt8 := dkwX6_alone_1 ++ dktX6_alone_2
def dkwX6_alone_0 : List UInt8 := [42, 3, 181, 0, 119, 42, 27, 182, 1, 250, 153, 0, 12, 28, 3, 5, 184, 0, 166, 154, 0, 5, 2, 172]
abbrev dktX6_alone_0 : List UInt8 := dkwX6_alone_0 ++ dktX6_alone_1
theorem dksX6_alone_0 : cX6_alone.data.toList.drop 0 = dktX6_alone_0 := by decide +kernel
theorem dksX6_alone_1 : cX6_alone.data.toList.drop 24 = dktX6_alone_1 := dk_seg dksX6_alone_0 24 rfl rfl
theorem dksX6_alone_2 : cX6_alone.data.toList.drop 47 = dktX6_alone_2 := dk_seg dksX6_alone_1 23 rfl rfl
theorem dksX6_alone_3 : cX6_alone.data.toList.drop 71 = dktX6_alone_3 := dk_seg dksX6_alone_2 24 rfl rfl
theorem dksX6_alone_4 : cX6_alone.data.toList.drop 95 = dktX6_alone_4 := dk_seg dksX6_alone_3 24 rfl rfl
theorem dX6_alone_0 : decode cX6_alone 0 = .ok (.aload_n 0, 1) := dk_42 (dk_at dksX6_alone_0 0 rfl rfl)
theorem dX6_alone_1 : decode cX6_alone 1 = .ok (.iconst 0, 1) := dk_3 (dk_at dksX6_alone_0 1 rfl rfl)
theorem dX6_alone_2 : decode cX6_alone 2 = .ok (.putfield 119, 3) := dk_181 0 119 (dk_at dksX6_alone_0 2 rfl rfl)
theorem dX6_alone_5 : decode cX6_alone 5 = .ok (.aload_n 0, 1) := dk_42 (dk_at dksX6_alone_0 5 rfl rfl)
theorem dX6_alone_6 : decode cX6_alone 6 = .ok (.iload_n 1, 1) := dk_27 (dk_at dksX6_alone_0 6 rfl rfl)
theorem dX6_alone_7 : decode cX6_alone 7 = .ok (.invokevirtual 506, 3) := dk_182 1 250 (dk_at dksX6_alone_0 7 rfl rfl)
theorem dX6_alone_10 : decode cX6_alone 10 = .ok (.ifCond .eq 12, 3) := dk_153 0 12 (dk_at dksX6_alone_0 10 rfl rfl)
theorem dX6_alone_13 : decode cX6_alone 13 = .ok (.iload_n 2, 1) := dk_28 (dk_at dksX6_alone_0 13 rfl rfl)
theorem dX6_alone_14 : decode cX6_alone 14 = .ok (.iconst 0, 1) := dk_3 (dk_at dksX6_alone_0 14 rfl rfl)
theorem dX6_alone_15 : decode cX6_alone 15 = .ok (.iconst 2, 1) := dk_5 (dk_at dksX6_alone_0 15 rfl rfl)
theorem dX6_alone_16 : decode cX6_alone 16 = .ok (.invokestatic 166, 3) := dk_184 0 166 (dk_at dksX6_alone_0 16 rfl rfl)
theorem dX6_alone_19 : decode cX6_alone 19 = .ok (.ifCond .ne 5, 3) := dk_154 0 5 (dk_at dksX6_alone_0 19 rfl rfl)
theorem dX6_alone_22 : decode cX6_alone 22 = .ok (.iconst (-1), 1) := dk_2 (dk_at dksX6_alone_0 22 rfl rfl)
theorem dX6_alone_23 : decode cX6_alone 23 = .ok (.ireturn, 1) := dk_172 (dk_at dksX6_alone_0 23 rfl rfl)
theorem dX6_alone_24 : decode cX6_alone 24 = .ok (.aload_n 0, 1) := dk_42 (dk_at dksX6_alone_1 0 rfl rfl)
theorem dX6_alone_25 : decode cX6_alone 25 = .ok (.iload_n 1, 1) := dk_27 (dk_at dksX6_alone_1 1 rfl rfl)
theorem dX6_alone_26 : decode cX6_alone 26 = .ok (.invokevirtual 509, 3) := dk_182 1 253 (dk_at dksX6_alone_1 2 rfl rfl)
theorem dX6_alone_29 : decode cX6_alone 29 = .ok (.aload_n 0, 1) := dk_42 (dk_at dksX6_alone_1 5 rfl rfl)
theorem dX6_alone_30 : decode cX6_alone 30 = .ok (.iconst 0, 1) := dk_3 (dk_at dksX6_alone_1 6 rfl rfl)
theorem dX6_alone_31 : decode cX6_alone 31 = .ok (.putfield 497, 3) := dk_181 1 241 (dk_at dksX6_alone_1 7 rfl rfl)
theorem dX6_alone_34 : decode cX6_alone 34 = .ok (.aload_n 0, 1) := dk_42 (dk_at dksX6_alone_1 10 rfl rfl)
theorem dX6_alone_35 : decode cX6_alone 35 = .ok (.iconst (-1), 1) := dk_2 (dk_at dksX6_alone_1 11 rfl rfl)
theorem dX6_alone_36 : decode cX6_alone 36 = .ok (.putfield 500, 3) := dk_181 1 244 (dk_at dksX6_alone_1 12 rfl rfl)
theorem dX6_alone_39 : decode cX6_alone 39 = .ok (.aload_n 0, 1) := dk_42 (dk_at dksX6_alone_1 15 rfl rfl)
theorem dX6_alone_40 : decode cX6_alone 40 = .ok (.iconst (-1), 1) := dk_2 (dk_at dksX6_alone_1 16 rfl rfl)
theorem dX6_alone_41 : decode cX6_alone 41 = .ok (.putfield 503, 3) := dk_181 1 247 (dk_at dksX6_alone_1 17 rfl rfl)
theorem dX6_alone_44 : decode cX6_alone 44 = .ok (.iconst 0, 1) := dk_3 (dk_at dksX6_alone_1 20 rfl rfl)
theorem dX6_alone_45 : decode cX6_alone 45 = .ok (.istore_n 3, 1) := dk_62 (dk_at dksX6_alone_1 21 rfl rfl)
theorem dX6_alone_46 : decode cX6_alone 46 = .ok (.iload_n 3, 1) := dk_29 (dk_at dksX6_alone_1 22 rfl rfl)
theorem dX6_alone_47 : decode cX6_alone 47 = .ok (.sipush 20000, 3) := dk_17 78 32 (dk_at dksX6_alone_2 0 rfl rfl)
theorem dX6_alone_50 : decode cX6_alone 50 = .ok (.if_icmp .ge 54, 3) := dk_162 0 54 (dk_at dksX6_alone_2 3 rfl rfl)
theorem dX6_alone_53 : decode cX6_alone 53 = .ok (.aload_n 0, 1) := dk_42 (dk_at dksX6_alone_2 6 rfl rfl)
theorem dX6_alone_54 : decode cX6_alone 54 = .ok (.getfield 88, 3) := dk_180 0 88 (dk_at dksX6_alone_2 7 rfl rfl)
theorem dX6_alone_57 : decode cX6_alone 57 = .ok (.sipush 20000, 3) := dk_17 78 32 (dk_at dksX6_alone_2 10 rfl rfl)
theorem dX6_alone_60 : decode cX6_alone 60 = .ok (.iload_n 1, 1) := dk_27 (dk_at dksX6_alone_2 13 rfl rfl)
theorem dX6_alone_61 : decode cX6_alone 61 = .ok (.imul, 1) := dk_104 (dk_at dksX6_alone_2 14 rfl rfl)
theorem dX6_alone_62 : decode cX6_alone 62 = .ok (.iload_n 3, 1) := dk_29 (dk_at dksX6_alone_2 15 rfl rfl)
theorem dX6_alone_63 : decode cX6_alone 63 = .ok (.iadd, 1) := dk_96 (dk_at dksX6_alone_2 16 rfl rfl)
theorem dX6_alone_64 : decode cX6_alone 64 = .ok (.baload, 1) := dk_51 (dk_at dksX6_alone_2 17 rfl rfl)
theorem dX6_alone_65 : decode cX6_alone 65 = .ok (.ifCond .ne 6, 3) := dk_154 0 6 (dk_at dksX6_alone_2 18 rfl rfl)
theorem dX6_alone_68 : decode cX6_alone 68 = .ok (.goto 30, 3) := dk_167 0 30 (dk_at dksX6_alone_2 21 rfl rfl)
theorem dX6_alone_71 : decode cX6_alone 71 = .ok (.aload_n 0, 1) := dk_42 (dk_at dksX6_alone_3 0 rfl rfl)
theorem dX6_alone_72 : decode cX6_alone 72 = .ok (.dup, 1) := dk_89 (dk_at dksX6_alone_3 1 rfl rfl)
theorem dX6_alone_73 : decode cX6_alone 73 = .ok (.getfield 497, 3) := dk_180 1 241 (dk_at dksX6_alone_3 2 rfl rfl)
theorem dX6_alone_76 : decode cX6_alone 76 = .ok (.iconst 1, 1) := dk_4 (dk_at dksX6_alone_3 5 rfl rfl)
theorem dX6_alone_77 : decode cX6_alone 77 = .ok (.iadd, 1) := dk_96 (dk_at dksX6_alone_3 6 rfl rfl)
theorem dX6_alone_78 : decode cX6_alone 78 = .ok (.putfield 497, 3) := dk_181 1 241 (dk_at dksX6_alone_3 7 rfl rfl)
theorem dX6_alone_81 : decode cX6_alone 81 = .ok (.aload_n 0, 1) := dk_42 (dk_at dksX6_alone_3 10 rfl rfl)
theorem dX6_alone_82 : decode cX6_alone 82 = .ok (.getfield 500, 3) := dk_180 1 244 (dk_at dksX6_alone_3 11 rfl rfl)
theorem dX6_alone_85 : decode cX6_alone 85 = .ok (.ifCond .ge 8, 3) := dk_156 0 8 (dk_at dksX6_alone_3 14 rfl rfl)
theorem dX6_alone_88 : decode cX6_alone 88 = .ok (.aload_n 0, 1) := dk_42 (dk_at dksX6_alone_3 17 rfl rfl)
theorem dX6_alone_89 : decode cX6_alone 89 = .ok (.iload_n 3, 1) := dk_29 (dk_at dksX6_alone_3 18 rfl rfl)
theorem dX6_alone_90 : decode cX6_alone 90 = .ok (.putfield 500, 3) := dk_181 1 244 (dk_at dksX6_alone_3 19 rfl rfl)
theorem dX6_alone_93 : decode cX6_alone 93 = .ok (.aload_n 0, 1) := dk_42 (dk_at dksX6_alone_3 22 rfl rfl)
theorem dX6_alone_94 : decode cX6_alone 94 = .ok (.iload_n 3, 1) := dk_29 (dk_at dksX6_alone_3 23 rfl rfl)
theorem dX6_alone_95 : decode cX6_alone 95 = .ok (.putfield 503, 3) := dk_181 1 247 (dk_at dksX6_alone_4 0 rfl rfl)
theorem dX6_alone_98 : decode cX6_alone 98 = .ok (.iinc 3 1, 3) := dk_132 3 1 (dk_at dksX6_alone_4 3 rfl rfl)
theorem dX6_alone_101 : decode cX6_alone 101 = .ok (.goto (-55), 3) := dk_167 255 201 (dk_at dksX6_alone_4 6 rfl rfl)
theorem dX6_alone_104 : decode cX6_alone 104 = .ok (.aload_n 0, 1) := dk_42 (dk_at dksX6_alone_4 9 rfl rfl)
theorem dX6_alone_105 : decode cX6_alone 105 = .ok (.iload_n 2, 1) := dk_28 (dk_at dksX6_alone_4 10 rfl rfl)
theorem dX6_alone_106 : decode cX6_alone 106 = .ok (.invokevirtual 512, 3) := dk_182 2 0 (dk_at dksX6_alone_4 11 rfl rfl)
theorem dX6_alone_109 : decode cX6_alone 109 = .ok (.ireturn, 1) := dk_172 (dk_at dksX6_alone_4 14 rfl rfl)
abbrev cX6_isNote : ByteArray := prog_20_method_102_code
def yX6_isNote : MethodName := ⟨RX6, "isNote", "(I)Z"⟩
def dkwX6_isNote_0 : List UInt8 := [27, 155, 0, 15, 27, 42, 180, 0, 229, 162, 0, 7, 4, 167, 0, 4, 3, 172]
abbrev dktX6_isNote_0 : List UInt8 := dkwX6_isNote_0 ++ []
theorem dksX6_isNote_0 : cX6_isNote.data.toList.drop 0 = dktX6_isNote_0 := by decide +kernel
theorem dX6_isNote_0 : decode cX6_isNote 0 = .ok (.iload_n 1, 1) := dk_27 (dk_at dksX6_isNote_0 0 rfl rfl)
theorem dX6_isNote_1 : decode cX6_isNote 1 = .ok (.ifCond .lt 15, 3) := dk_155 0 15 (dk_at dksX6_isNote_0 1 rfl rfl)
theorem dX6_isNote_4 : decode cX6_isNote 4 = .ok (.iload_n 1, 1) := dk_27 (dk_at dksX6_isNote_0 4 rfl rfl)
theorem dX6_isNote_5 : decode cX6_isNote 5 = .ok (.aload_n 0, 1) := dk_42 (dk_at dksX6_isNote_0 5 rfl rfl)
theorem dX6_isNote_6 : decode cX6_isNote 6 = .ok (.getfield 229, 3) := dk_180 0 229 (dk_at dksX6_isNote_0 6 rfl rfl)
theorem dX6_isNote_9 : decode cX6_isNote 9 = .ok (.if_icmp .ge 7, 3) := dk_162 0 7 (dk_at dksX6_isNote_0 9 rfl rfl)
theorem dX6_isNote_12 : decode cX6_isNote 12 = .ok (.iconst 1, 1) := dk_4 (dk_at dksX6_isNote_0 12 rfl rfl)
theorem dX6_isNote_13 : decode cX6_isNote 13 = .ok (.goto 4, 3) := dk_167 0 4 (dk_at dksX6_isNote_0 13 rfl rfl)
theorem dX6_isNote_16 : decode cX6_isNote 16 = .ok (.iconst 0, 1) := dk_3 (dk_at dksX6_isNote_0 16 rfl rfl)
theorem dX6_isNote_17 : decode cX6_isNote 17 = .ok (.ireturn, 1) := dk_172 (dk_at dksX6_isNote_0 17 rfl rfl)
abbrev cX6_layCan : ByteArray := prog_20_method_104_code
def yX6_layCan : MethodName := ⟨RX6, "layCan", "(I)V"⟩
def dkwX6_layCan_1 : List UInt8 := [182, 1, 238, 84, 132, 2, 1, 167, 255, 228, 177]
abbrev dktX6_layCan_1 : List UInt8 := dkwX6_layCan_1 ++ []
def dkwX6_layCan_0 : List UInt8 := [3, 61, 28, 17, 78, 32, 162, 0, 27, 42, 180, 0, 88, 17, 78, 32, 27, 104, 28, 96, 42, 27, 28]
abbrev dktX6_layCan_0 : List UInt8 := dkwX6_layCan_0 ++ dktX6_layCan_1
theorem dksX6_layCan_0 : cX6_layCan.data.toList.drop 0 = dktX6_layCan_0 := by decide +kernel
theorem dksX6_layCan_1 : cX6_layCan.data.toList.drop 23 = dktX6_layCan_1 := dk_seg dksX6_layCan_0 23 rfl rfl
theorem dX6_layCan_0 : decode cX6_layCan 0 = .ok (.iconst 0, 1) := dk_3 (dk_at dksX6_layCan_0 0 rfl rfl)
theorem dX6_layCan_1 : decode cX6_layCan 1 = .ok (.istore_n 2, 1) := dk_61 (dk_at dksX6_layCan_0 1 rfl rfl)
theorem dX6_layCan_2 : decode cX6_layCan 2 = .ok (.iload_n 2, 1) := dk_28 (dk_at dksX6_layCan_0 2 rfl rfl)
theorem dX6_layCan_3 : decode cX6_layCan 3 = .ok (.sipush 20000, 3) := dk_17 78 32 (dk_at dksX6_layCan_0 3 rfl rfl)
theorem dX6_layCan_6 : decode cX6_layCan 6 = .ok (.if_icmp .ge 27, 3) := dk_162 0 27 (dk_at dksX6_layCan_0 6 rfl rfl)
theorem dX6_layCan_9 : decode cX6_layCan 9 = .ok (.aload_n 0, 1) := dk_42 (dk_at dksX6_layCan_0 9 rfl rfl)
theorem dX6_layCan_10 : decode cX6_layCan 10 = .ok (.getfield 88, 3) := dk_180 0 88 (dk_at dksX6_layCan_0 10 rfl rfl)
theorem dX6_layCan_13 : decode cX6_layCan 13 = .ok (.sipush 20000, 3) := dk_17 78 32 (dk_at dksX6_layCan_0 13 rfl rfl)
theorem dX6_layCan_16 : decode cX6_layCan 16 = .ok (.iload_n 1, 1) := dk_27 (dk_at dksX6_layCan_0 16 rfl rfl)
theorem dX6_layCan_17 : decode cX6_layCan 17 = .ok (.imul, 1) := dk_104 (dk_at dksX6_layCan_0 17 rfl rfl)
theorem dX6_layCan_18 : decode cX6_layCan 18 = .ok (.iload_n 2, 1) := dk_28 (dk_at dksX6_layCan_0 18 rfl rfl)
theorem dX6_layCan_19 : decode cX6_layCan 19 = .ok (.iadd, 1) := dk_96 (dk_at dksX6_layCan_0 19 rfl rfl)
theorem dX6_layCan_20 : decode cX6_layCan 20 = .ok (.aload_n 0, 1) := dk_42 (dk_at dksX6_layCan_0 20 rfl rfl)
theorem dX6_layCan_21 : decode cX6_layCan 21 = .ok (.iload_n 1, 1) := dk_27 (dk_at dksX6_layCan_0 21 rfl rfl)
theorem dX6_layCan_22 : decode cX6_layCan 22 = .ok (.iload_n 2, 1) := dk_28 (dk_at dksX6_layCan_0 22 rfl rfl)
theorem dX6_layCan_23 : decode cX6_layCan 23 = .ok (.invokevirtual 494, 3) := dk_182 1 238 (dk_at dksX6_layCan_1 0 rfl rfl)
theorem dX6_layCan_26 : decode cX6_layCan 26 = .ok (.bastore, 1) := dk_84 (dk_at dksX6_layCan_1 3 rfl rfl)
theorem dX6_layCan_27 : decode cX6_layCan 27 = .ok (.iinc 2 1, 3) := dk_132 2 1 (dk_at dksX6_layCan_1 4 rfl rfl)
theorem dX6_layCan_30 : decode cX6_layCan 30 = .ok (.goto (-28), 3) := dk_167 255 228 (dk_at dksX6_layCan_1 7 rfl rfl)
theorem dX6_layCan_33 : decode cX6_layCan 33 = .ok (.return_, 1) := dk_177 (dk_at dksX6_layCan_1 10 rfl rfl)
abbrev cX6_canBe : ByteArray := prog_20_method_103_code
def yX6_canBe : MethodName := ⟨RX6, "canBe", "(II)Z"⟩
def dkwX6_canBe_12 : List UInt8 := [180, 0, 60, 29, 16, 8, 96, 46, 28, 133, 182, 1, 195, 9, 148, 153, 0, 7, 4, 167, 0, 4, 3, 172]
abbrev dktX6_canBe_12 : List UInt8 := dkwX6_canBe_12 ++ []
def dkwX6_canBe_11 : List UInt8 := [29, 6, 96, 46, 133, 148, 153, 0, 5, 3, 172, 21, 4, 16, 6, 184, 1, 41, 153, 0, 23, 42, 42]
abbrev dktX6_canBe_11 : List UInt8 := dkwX6_canBe_11 ++ dktX6_canBe_12
def dkwX6_canBe_10 : List UInt8 := [133, 148, 158, 0, 5, 3, 172, 21, 4, 4, 184, 1, 41, 153, 0, 22, 42, 180, 1, 143, 42, 180, 0, 60]
abbrev dktX6_canBe_10 : List UInt8 := dkwX6_canBe_10 ++ dktX6_canBe_11
def dkwX6_canBe_9 : List UInt8 := [180, 0, 60, 29, 4, 96, 46, 133, 148, 155, 0, 20, 42, 180, 1, 140, 42, 180, 0, 60, 29, 5, 96, 46]
abbrev dktX6_canBe_9 : List UInt8 := dkwX6_canBe_9 ++ dktX6_canBe_10
def dkwX6_canBe_8 : List UInt8 := [182, 1, 160, 154, 0, 5, 3, 172, 21, 4, 3, 184, 1, 41, 153, 0, 39, 42, 180, 1, 140, 42]
abbrev dktX6_canBe_8 : List UInt8 := dkwX6_canBe_8 ++ dktX6_canBe_9
def dkwX6_canBe_7 : List UInt8 := [148, 158, 0, 5, 3, 172, 21, 4, 6, 126, 153, 0, 95, 42, 180, 0, 217, 153, 0, 13, 42, 3, 28, 133]
abbrev dktX6_canBe_7 : List UInt8 := dkwX6_canBe_7 ++ dktX6_canBe_8
def dkwX6_canBe_6 : List UInt8 := [96, 46, 47, 9, 148, 155, 0, 25, 28, 133, 42, 180, 0, 45, 42, 180, 0, 60, 29, 16, 7, 96, 46, 47]
abbrev dktX6_canBe_6 : List UInt8 := dkwX6_canBe_6 ++ dktX6_canBe_7
def dkwX6_canBe_5 : List UInt8 := [180, 0, 60, 29, 16, 7, 96, 46, 47, 148, 155, 0, 42, 42, 180, 0, 45, 42, 180, 0, 60, 29, 16, 7]
abbrev dktX6_canBe_5 : List UInt8 := dkwX6_canBe_5 ++ dktX6_canBe_6
def dkwX6_canBe_4 : List UInt8 := [46, 159, 0, 5, 3, 172, 21, 4, 8, 184, 1, 41, 153, 0, 64, 28, 133, 42, 180, 0, 41, 42]
abbrev dktX6_canBe_4 : List UInt8 := dkwX6_canBe_4 ++ dktX6_canBe_5
def dkwX6_canBe_3 : List UInt8 := [21, 4, 7, 184, 1, 41, 153, 0, 24, 42, 28, 133, 5, 182, 1, 168, 42, 180, 0, 60, 29, 16, 6, 96]
abbrev dktX6_canBe_3 : List UInt8 := dkwX6_canBe_3 ++ dktX6_canBe_4
def dkwX6_canBe_2 : List UInt8 := [153, 0, 23, 42, 28, 133, 4, 182, 1, 168, 42, 180, 0, 60, 29, 8, 96, 46, 159, 0, 5, 3, 172]
abbrev dktX6_canBe_2 : List UInt8 := dkwX6_canBe_2 ++ dktX6_canBe_3
def dkwX6_canBe_1 : List UInt8 := [133, 3, 182, 1, 168, 42, 180, 0, 60, 29, 7, 96, 46, 159, 0, 5, 3, 172, 21, 4, 6, 184, 1, 41]
abbrev dktX6_canBe_1 : List UInt8 := dkwX6_canBe_1 ++ dktX6_canBe_2
def dkwX6_canBe_0 : List UInt8 := [16, 11, 27, 104, 62, 42, 180, 0, 60, 29, 46, 54, 4, 21, 4, 5, 184, 1, 41, 153, 0, 23, 42, 28]
abbrev dktX6_canBe_0 : List UInt8 := dkwX6_canBe_0 ++ dktX6_canBe_1
theorem dksX6_canBe_0 : cX6_canBe.data.toList.drop 0 = dktX6_canBe_0 := by decide +kernel
theorem dksX6_canBe_1 : cX6_canBe.data.toList.drop 24 = dktX6_canBe_1 := dk_seg dksX6_canBe_0 24 rfl rfl
theorem dksX6_canBe_2 : cX6_canBe.data.toList.drop 48 = dktX6_canBe_2 := dk_seg dksX6_canBe_1 24 rfl rfl
theorem dksX6_canBe_3 : cX6_canBe.data.toList.drop 71 = dktX6_canBe_3 := dk_seg dksX6_canBe_2 23 rfl rfl
theorem dksX6_canBe_4 : cX6_canBe.data.toList.drop 95 = dktX6_canBe_4 := dk_seg dksX6_canBe_3 24 rfl rfl
theorem dksX6_canBe_5 : cX6_canBe.data.toList.drop 117 = dktX6_canBe_5 := dk_seg dksX6_canBe_4 22 rfl rfl
theorem dksX6_canBe_6 : cX6_canBe.data.toList.drop 141 = dktX6_canBe_6 := dk_seg dksX6_canBe_5 24 rfl rfl
theorem dksX6_canBe_7 : cX6_canBe.data.toList.drop 165 = dktX6_canBe_7 := dk_seg dksX6_canBe_6 24 rfl rfl
theorem dksX6_canBe_8 : cX6_canBe.data.toList.drop 189 = dktX6_canBe_8 := dk_seg dksX6_canBe_7 24 rfl rfl
theorem dksX6_canBe_9 : cX6_canBe.data.toList.drop 211 = dktX6_canBe_9 := dk_seg dksX6_canBe_8 22 rfl rfl
theorem dksX6_canBe_10 : cX6_canBe.data.toList.drop 235 = dktX6_canBe_10 := dk_seg dksX6_canBe_9 24 rfl rfl
theorem dksX6_canBe_11 : cX6_canBe.data.toList.drop 259 = dktX6_canBe_11 := dk_seg dksX6_canBe_10 24 rfl rfl
theorem dksX6_canBe_12 : cX6_canBe.data.toList.drop 282 = dktX6_canBe_12 := dk_seg dksX6_canBe_11 23 rfl rfl
theorem dX6_canBe_0 : decode cX6_canBe 0 = .ok (.bipush 11, 2) := dk_16 11 (dk_at dksX6_canBe_0 0 rfl rfl)
theorem dX6_canBe_2 : decode cX6_canBe 2 = .ok (.iload_n 1, 1) := dk_27 (dk_at dksX6_canBe_0 2 rfl rfl)
theorem dX6_canBe_3 : decode cX6_canBe 3 = .ok (.imul, 1) := dk_104 (dk_at dksX6_canBe_0 3 rfl rfl)
theorem dX6_canBe_4 : decode cX6_canBe 4 = .ok (.istore_n 3, 1) := dk_62 (dk_at dksX6_canBe_0 4 rfl rfl)
theorem dX6_canBe_5 : decode cX6_canBe 5 = .ok (.aload_n 0, 1) := dk_42 (dk_at dksX6_canBe_0 5 rfl rfl)
theorem dX6_canBe_6 : decode cX6_canBe 6 = .ok (.getfield 60, 3) := dk_180 0 60 (dk_at dksX6_canBe_0 6 rfl rfl)
theorem dX6_canBe_9 : decode cX6_canBe 9 = .ok (.iload_n 3, 1) := dk_29 (dk_at dksX6_canBe_0 9 rfl rfl)
theorem dX6_canBe_10 : decode cX6_canBe 10 = .ok (.iaload, 1) := dk_46 (dk_at dksX6_canBe_0 10 rfl rfl)
theorem dX6_canBe_11 : decode cX6_canBe 11 = .ok (.istore 4, 2) := dk_54 4 (dk_at dksX6_canBe_0 11 rfl rfl)
theorem dX6_canBe_13 : decode cX6_canBe 13 = .ok (.iload 4, 2) := dk_21 4 (dk_at dksX6_canBe_0 13 rfl rfl)
theorem dX6_canBe_15 : decode cX6_canBe 15 = .ok (.iconst 2, 1) := dk_5 (dk_at dksX6_canBe_0 15 rfl rfl)
theorem dX6_canBe_16 : decode cX6_canBe 16 = .ok (.invokestatic 297, 3) := dk_184 1 41 (dk_at dksX6_canBe_0 16 rfl rfl)
theorem dX6_canBe_19 : decode cX6_canBe 19 = .ok (.ifCond .eq 23, 3) := dk_153 0 23 (dk_at dksX6_canBe_0 19 rfl rfl)
theorem dX6_canBe_22 : decode cX6_canBe 22 = .ok (.aload_n 0, 1) := dk_42 (dk_at dksX6_canBe_0 22 rfl rfl)
theorem dX6_canBe_23 : decode cX6_canBe 23 = .ok (.iload_n 2, 1) := dk_28 (dk_at dksX6_canBe_0 23 rfl rfl)
theorem dX6_canBe_24 : decode cX6_canBe 24 = .ok (.i2l, 1) := dk_133 (dk_at dksX6_canBe_1 0 rfl rfl)
theorem dX6_canBe_25 : decode cX6_canBe 25 = .ok (.iconst 0, 1) := dk_3 (dk_at dksX6_canBe_1 1 rfl rfl)
theorem dX6_canBe_26 : decode cX6_canBe 26 = .ok (.invokevirtual 424, 3) := dk_182 1 168 (dk_at dksX6_canBe_1 2 rfl rfl)
theorem dX6_canBe_29 : decode cX6_canBe 29 = .ok (.aload_n 0, 1) := dk_42 (dk_at dksX6_canBe_1 5 rfl rfl)
theorem dX6_canBe_30 : decode cX6_canBe 30 = .ok (.getfield 60, 3) := dk_180 0 60 (dk_at dksX6_canBe_1 6 rfl rfl)
theorem dX6_canBe_33 : decode cX6_canBe 33 = .ok (.iload_n 3, 1) := dk_29 (dk_at dksX6_canBe_1 9 rfl rfl)
theorem dX6_canBe_34 : decode cX6_canBe 34 = .ok (.iconst 4, 1) := dk_7 (dk_at dksX6_canBe_1 10 rfl rfl)
theorem dX6_canBe_35 : decode cX6_canBe 35 = .ok (.iadd, 1) := dk_96 (dk_at dksX6_canBe_1 11 rfl rfl)
theorem dX6_canBe_36 : decode cX6_canBe 36 = .ok (.iaload, 1) := dk_46 (dk_at dksX6_canBe_1 12 rfl rfl)
theorem dX6_canBe_37 : decode cX6_canBe 37 = .ok (.if_icmp .eq 5, 3) := dk_159 0 5 (dk_at dksX6_canBe_1 13 rfl rfl)
theorem dX6_canBe_40 : decode cX6_canBe 40 = .ok (.iconst 0, 1) := dk_3 (dk_at dksX6_canBe_1 16 rfl rfl)
theorem dX6_canBe_41 : decode cX6_canBe 41 = .ok (.ireturn, 1) := dk_172 (dk_at dksX6_canBe_1 17 rfl rfl)
theorem dX6_canBe_42 : decode cX6_canBe 42 = .ok (.iload 4, 2) := dk_21 4 (dk_at dksX6_canBe_1 18 rfl rfl)
theorem dX6_canBe_44 : decode cX6_canBe 44 = .ok (.iconst 3, 1) := dk_6 (dk_at dksX6_canBe_1 20 rfl rfl)
theorem dX6_canBe_45 : decode cX6_canBe 45 = .ok (.invokestatic 297, 3) := dk_184 1 41 (dk_at dksX6_canBe_1 21 rfl rfl)
theorem dX6_canBe_48 : decode cX6_canBe 48 = .ok (.ifCond .eq 23, 3) := dk_153 0 23 (dk_at dksX6_canBe_2 0 rfl rfl)
theorem dX6_canBe_51 : decode cX6_canBe 51 = .ok (.aload_n 0, 1) := dk_42 (dk_at dksX6_canBe_2 3 rfl rfl)
theorem dX6_canBe_52 : decode cX6_canBe 52 = .ok (.iload_n 2, 1) := dk_28 (dk_at dksX6_canBe_2 4 rfl rfl)
theorem dX6_canBe_53 : decode cX6_canBe 53 = .ok (.i2l, 1) := dk_133 (dk_at dksX6_canBe_2 5 rfl rfl)
theorem dX6_canBe_54 : decode cX6_canBe 54 = .ok (.iconst 1, 1) := dk_4 (dk_at dksX6_canBe_2 6 rfl rfl)
theorem dX6_canBe_55 : decode cX6_canBe 55 = .ok (.invokevirtual 424, 3) := dk_182 1 168 (dk_at dksX6_canBe_2 7 rfl rfl)
theorem dX6_canBe_58 : decode cX6_canBe 58 = .ok (.aload_n 0, 1) := dk_42 (dk_at dksX6_canBe_2 10 rfl rfl)
theorem dX6_canBe_59 : decode cX6_canBe 59 = .ok (.getfield 60, 3) := dk_180 0 60 (dk_at dksX6_canBe_2 11 rfl rfl)
theorem dX6_canBe_62 : decode cX6_canBe 62 = .ok (.iload_n 3, 1) := dk_29 (dk_at dksX6_canBe_2 14 rfl rfl)
theorem dX6_canBe_63 : decode cX6_canBe 63 = .ok (.iconst 5, 1) := dk_8 (dk_at dksX6_canBe_2 15 rfl rfl)
theorem dX6_canBe_64 : decode cX6_canBe 64 = .ok (.iadd, 1) := dk_96 (dk_at dksX6_canBe_2 16 rfl rfl)
theorem dX6_canBe_65 : decode cX6_canBe 65 = .ok (.iaload, 1) := dk_46 (dk_at dksX6_canBe_2 17 rfl rfl)
theorem dX6_canBe_66 : decode cX6_canBe 66 = .ok (.if_icmp .eq 5, 3) := dk_159 0 5 (dk_at dksX6_canBe_2 18 rfl rfl)
theorem dX6_canBe_69 : decode cX6_canBe 69 = .ok (.iconst 0, 1) := dk_3 (dk_at dksX6_canBe_2 21 rfl rfl)
theorem dX6_canBe_70 : decode cX6_canBe 70 = .ok (.ireturn, 1) := dk_172 (dk_at dksX6_canBe_2 22 rfl rfl)
theorem dX6_canBe_71 : decode cX6_canBe 71 = .ok (.iload 4, 2) := dk_21 4 (dk_at dksX6_canBe_3 0 rfl rfl)
theorem dX6_canBe_73 : decode cX6_canBe 73 = .ok (.iconst 4, 1) := dk_7 (dk_at dksX6_canBe_3 2 rfl rfl)
theorem dX6_canBe_74 : decode cX6_canBe 74 = .ok (.invokestatic 297, 3) := dk_184 1 41 (dk_at dksX6_canBe_3 3 rfl rfl)
theorem dX6_canBe_77 : decode cX6_canBe 77 = .ok (.ifCond .eq 24, 3) := dk_153 0 24 (dk_at dksX6_canBe_3 6 rfl rfl)
theorem dX6_canBe_80 : decode cX6_canBe 80 = .ok (.aload_n 0, 1) := dk_42 (dk_at dksX6_canBe_3 9 rfl rfl)
theorem dX6_canBe_81 : decode cX6_canBe 81 = .ok (.iload_n 2, 1) := dk_28 (dk_at dksX6_canBe_3 10 rfl rfl)
theorem dX6_canBe_82 : decode cX6_canBe 82 = .ok (.i2l, 1) := dk_133 (dk_at dksX6_canBe_3 11 rfl rfl)
theorem dX6_canBe_83 : decode cX6_canBe 83 = .ok (.iconst 2, 1) := dk_5 (dk_at dksX6_canBe_3 12 rfl rfl)
theorem dX6_canBe_84 : decode cX6_canBe 84 = .ok (.invokevirtual 424, 3) := dk_182 1 168 (dk_at dksX6_canBe_3 13 rfl rfl)
theorem dX6_canBe_87 : decode cX6_canBe 87 = .ok (.aload_n 0, 1) := dk_42 (dk_at dksX6_canBe_3 16 rfl rfl)
theorem dX6_canBe_88 : decode cX6_canBe 88 = .ok (.getfield 60, 3) := dk_180 0 60 (dk_at dksX6_canBe_3 17 rfl rfl)
theorem dX6_canBe_91 : decode cX6_canBe 91 = .ok (.iload_n 3, 1) := dk_29 (dk_at dksX6_canBe_3 20 rfl rfl)
theorem dX6_canBe_92 : decode cX6_canBe 92 = .ok (.bipush 6, 2) := dk_16 6 (dk_at dksX6_canBe_3 21 rfl rfl)
theorem dX6_canBe_94 : decode cX6_canBe 94 = .ok (.iadd, 1) := dk_96 (dk_at dksX6_canBe_3 23 rfl rfl)
theorem dX6_canBe_95 : decode cX6_canBe 95 = .ok (.iaload, 1) := dk_46 (dk_at dksX6_canBe_4 0 rfl rfl)
theorem dX6_canBe_96 : decode cX6_canBe 96 = .ok (.if_icmp .eq 5, 3) := dk_159 0 5 (dk_at dksX6_canBe_4 1 rfl rfl)
theorem dX6_canBe_99 : decode cX6_canBe 99 = .ok (.iconst 0, 1) := dk_3 (dk_at dksX6_canBe_4 4 rfl rfl)
theorem dX6_canBe_100 : decode cX6_canBe 100 = .ok (.ireturn, 1) := dk_172 (dk_at dksX6_canBe_4 5 rfl rfl)
theorem dX6_canBe_101 : decode cX6_canBe 101 = .ok (.iload 4, 2) := dk_21 4 (dk_at dksX6_canBe_4 6 rfl rfl)
theorem dX6_canBe_103 : decode cX6_canBe 103 = .ok (.iconst 5, 1) := dk_8 (dk_at dksX6_canBe_4 8 rfl rfl)
theorem dX6_canBe_104 : decode cX6_canBe 104 = .ok (.invokestatic 297, 3) := dk_184 1 41 (dk_at dksX6_canBe_4 9 rfl rfl)
theorem dX6_canBe_107 : decode cX6_canBe 107 = .ok (.ifCond .eq 64, 3) := dk_153 0 64 (dk_at dksX6_canBe_4 12 rfl rfl)
theorem dX6_canBe_110 : decode cX6_canBe 110 = .ok (.iload_n 2, 1) := dk_28 (dk_at dksX6_canBe_4 15 rfl rfl)
theorem dX6_canBe_111 : decode cX6_canBe 111 = .ok (.i2l, 1) := dk_133 (dk_at dksX6_canBe_4 16 rfl rfl)
theorem dX6_canBe_112 : decode cX6_canBe 112 = .ok (.aload_n 0, 1) := dk_42 (dk_at dksX6_canBe_4 17 rfl rfl)
theorem dX6_canBe_113 : decode cX6_canBe 113 = .ok (.getfield 41, 3) := dk_180 0 41 (dk_at dksX6_canBe_4 18 rfl rfl)
theorem dX6_canBe_116 : decode cX6_canBe 116 = .ok (.aload_n 0, 1) := dk_42 (dk_at dksX6_canBe_4 21 rfl rfl)
theorem dX6_canBe_117 : decode cX6_canBe 117 = .ok (.getfield 60, 3) := dk_180 0 60 (dk_at dksX6_canBe_5 0 rfl rfl)
theorem dX6_canBe_120 : decode cX6_canBe 120 = .ok (.iload_n 3, 1) := dk_29 (dk_at dksX6_canBe_5 3 rfl rfl)
theorem dX6_canBe_121 : decode cX6_canBe 121 = .ok (.bipush 7, 2) := dk_16 7 (dk_at dksX6_canBe_5 4 rfl rfl)
theorem dX6_canBe_123 : decode cX6_canBe 123 = .ok (.iadd, 1) := dk_96 (dk_at dksX6_canBe_5 6 rfl rfl)
theorem dX6_canBe_124 : decode cX6_canBe 124 = .ok (.iaload, 1) := dk_46 (dk_at dksX6_canBe_5 7 rfl rfl)
theorem dX6_canBe_125 : decode cX6_canBe 125 = .ok (.laload, 1) := dk_47 (dk_at dksX6_canBe_5 8 rfl rfl)
theorem dX6_canBe_126 : decode cX6_canBe 126 = .ok (.lcmp, 1) := dk_148 (dk_at dksX6_canBe_5 9 rfl rfl)
theorem dX6_canBe_127 : decode cX6_canBe 127 = .ok (.ifCond .lt 42, 3) := dk_155 0 42 (dk_at dksX6_canBe_5 10 rfl rfl)
theorem dX6_canBe_130 : decode cX6_canBe 130 = .ok (.aload_n 0, 1) := dk_42 (dk_at dksX6_canBe_5 13 rfl rfl)
theorem dX6_canBe_131 : decode cX6_canBe 131 = .ok (.getfield 45, 3) := dk_180 0 45 (dk_at dksX6_canBe_5 14 rfl rfl)
theorem dX6_canBe_134 : decode cX6_canBe 134 = .ok (.aload_n 0, 1) := dk_42 (dk_at dksX6_canBe_5 17 rfl rfl)
theorem dX6_canBe_135 : decode cX6_canBe 135 = .ok (.getfield 60, 3) := dk_180 0 60 (dk_at dksX6_canBe_5 18 rfl rfl)
theorem dX6_canBe_138 : decode cX6_canBe 138 = .ok (.iload_n 3, 1) := dk_29 (dk_at dksX6_canBe_5 21 rfl rfl)
theorem dX6_canBe_139 : decode cX6_canBe 139 = .ok (.bipush 7, 2) := dk_16 7 (dk_at dksX6_canBe_5 22 rfl rfl)
theorem dX6_canBe_141 : decode cX6_canBe 141 = .ok (.iadd, 1) := dk_96 (dk_at dksX6_canBe_6 0 rfl rfl)
theorem dX6_canBe_142 : decode cX6_canBe 142 = .ok (.iaload, 1) := dk_46 (dk_at dksX6_canBe_6 1 rfl rfl)
theorem dX6_canBe_143 : decode cX6_canBe 143 = .ok (.laload, 1) := dk_47 (dk_at dksX6_canBe_6 2 rfl rfl)
theorem dX6_canBe_144 : decode cX6_canBe 144 = .ok (.lconst 0, 1) := dk_9 (dk_at dksX6_canBe_6 3 rfl rfl)
theorem dX6_canBe_145 : decode cX6_canBe 145 = .ok (.lcmp, 1) := dk_148 (dk_at dksX6_canBe_6 4 rfl rfl)
theorem dX6_canBe_146 : decode cX6_canBe 146 = .ok (.ifCond .lt 25, 3) := dk_155 0 25 (dk_at dksX6_canBe_6 5 rfl rfl)
theorem dX6_canBe_149 : decode cX6_canBe 149 = .ok (.iload_n 2, 1) := dk_28 (dk_at dksX6_canBe_6 8 rfl rfl)
theorem dX6_canBe_150 : decode cX6_canBe 150 = .ok (.i2l, 1) := dk_133 (dk_at dksX6_canBe_6 9 rfl rfl)
theorem dX6_canBe_151 : decode cX6_canBe 151 = .ok (.aload_n 0, 1) := dk_42 (dk_at dksX6_canBe_6 10 rfl rfl)
theorem dX6_canBe_152 : decode cX6_canBe 152 = .ok (.getfield 45, 3) := dk_180 0 45 (dk_at dksX6_canBe_6 11 rfl rfl)
theorem dX6_canBe_155 : decode cX6_canBe 155 = .ok (.aload_n 0, 1) := dk_42 (dk_at dksX6_canBe_6 14 rfl rfl)
theorem dX6_canBe_156 : decode cX6_canBe 156 = .ok (.getfield 60, 3) := dk_180 0 60 (dk_at dksX6_canBe_6 15 rfl rfl)
theorem dX6_canBe_159 : decode cX6_canBe 159 = .ok (.iload_n 3, 1) := dk_29 (dk_at dksX6_canBe_6 18 rfl rfl)
theorem dX6_canBe_160 : decode cX6_canBe 160 = .ok (.bipush 7, 2) := dk_16 7 (dk_at dksX6_canBe_6 19 rfl rfl)
theorem dX6_canBe_162 : decode cX6_canBe 162 = .ok (.iadd, 1) := dk_96 (dk_at dksX6_canBe_6 21 rfl rfl)
theorem dX6_canBe_163 : decode cX6_canBe 163 = .ok (.iaload, 1) := dk_46 (dk_at dksX6_canBe_6 22 rfl rfl)
theorem dX6_canBe_164 : decode cX6_canBe 164 = .ok (.laload, 1) := dk_47 (dk_at dksX6_canBe_6 23 rfl rfl)
theorem dX6_canBe_165 : decode cX6_canBe 165 = .ok (.lcmp, 1) := dk_148 (dk_at dksX6_canBe_7 0 rfl rfl)
theorem dX6_canBe_166 : decode cX6_canBe 166 = .ok (.ifCond .le 5, 3) := dk_158 0 5 (dk_at dksX6_canBe_7 1 rfl rfl)
theorem dX6_canBe_169 : decode cX6_canBe 169 = .ok (.iconst 0, 1) := dk_3 (dk_at dksX6_canBe_7 4 rfl rfl)
theorem dX6_canBe_170 : decode cX6_canBe 170 = .ok (.ireturn, 1) := dk_172 (dk_at dksX6_canBe_7 5 rfl rfl)
theorem dX6_canBe_171 : decode cX6_canBe 171 = .ok (.iload 4, 2) := dk_21 4 (dk_at dksX6_canBe_7 6 rfl rfl)
theorem dX6_canBe_173 : decode cX6_canBe 173 = .ok (.iconst 3, 1) := dk_6 (dk_at dksX6_canBe_7 8 rfl rfl)
theorem dX6_canBe_174 : decode cX6_canBe 174 = .ok (.iand, 1) := dk_126 (dk_at dksX6_canBe_7 9 rfl rfl)
theorem dX6_canBe_175 : decode cX6_canBe 175 = .ok (.ifCond .eq 95, 3) := dk_153 0 95 (dk_at dksX6_canBe_7 10 rfl rfl)
theorem dX6_canBe_178 : decode cX6_canBe 178 = .ok (.aload_n 0, 1) := dk_42 (dk_at dksX6_canBe_7 13 rfl rfl)
theorem dX6_canBe_179 : decode cX6_canBe 179 = .ok (.getfield 217, 3) := dk_180 0 217 (dk_at dksX6_canBe_7 14 rfl rfl)
theorem dX6_canBe_182 : decode cX6_canBe 182 = .ok (.ifCond .eq 13, 3) := dk_153 0 13 (dk_at dksX6_canBe_7 17 rfl rfl)
theorem dX6_canBe_185 : decode cX6_canBe 185 = .ok (.aload_n 0, 1) := dk_42 (dk_at dksX6_canBe_7 20 rfl rfl)
theorem dX6_canBe_186 : decode cX6_canBe 186 = .ok (.iconst 0, 1) := dk_3 (dk_at dksX6_canBe_7 21 rfl rfl)
theorem dX6_canBe_187 : decode cX6_canBe 187 = .ok (.iload_n 2, 1) := dk_28 (dk_at dksX6_canBe_7 22 rfl rfl)
theorem dX6_canBe_188 : decode cX6_canBe 188 = .ok (.i2l, 1) := dk_133 (dk_at dksX6_canBe_7 23 rfl rfl)
theorem dX6_canBe_189 : decode cX6_canBe 189 = .ok (.invokevirtual 416, 3) := dk_182 1 160 (dk_at dksX6_canBe_8 0 rfl rfl)
theorem dX6_canBe_192 : decode cX6_canBe 192 = .ok (.ifCond .ne 5, 3) := dk_154 0 5 (dk_at dksX6_canBe_8 3 rfl rfl)
theorem dX6_canBe_195 : decode cX6_canBe 195 = .ok (.iconst 0, 1) := dk_3 (dk_at dksX6_canBe_8 6 rfl rfl)
theorem dX6_canBe_196 : decode cX6_canBe 196 = .ok (.ireturn, 1) := dk_172 (dk_at dksX6_canBe_8 7 rfl rfl)
theorem dX6_canBe_197 : decode cX6_canBe 197 = .ok (.iload 4, 2) := dk_21 4 (dk_at dksX6_canBe_8 8 rfl rfl)
theorem dX6_canBe_199 : decode cX6_canBe 199 = .ok (.iconst 0, 1) := dk_3 (dk_at dksX6_canBe_8 10 rfl rfl)
theorem dX6_canBe_200 : decode cX6_canBe 200 = .ok (.invokestatic 297, 3) := dk_184 1 41 (dk_at dksX6_canBe_8 11 rfl rfl)
theorem dX6_canBe_203 : decode cX6_canBe 203 = .ok (.ifCond .eq 39, 3) := dk_153 0 39 (dk_at dksX6_canBe_8 14 rfl rfl)
theorem dX6_canBe_206 : decode cX6_canBe 206 = .ok (.aload_n 0, 1) := dk_42 (dk_at dksX6_canBe_8 17 rfl rfl)
theorem dX6_canBe_207 : decode cX6_canBe 207 = .ok (.getfield 396, 3) := dk_180 1 140 (dk_at dksX6_canBe_8 18 rfl rfl)
theorem dX6_canBe_210 : decode cX6_canBe 210 = .ok (.aload_n 0, 1) := dk_42 (dk_at dksX6_canBe_8 21 rfl rfl)
theorem dX6_canBe_211 : decode cX6_canBe 211 = .ok (.getfield 60, 3) := dk_180 0 60 (dk_at dksX6_canBe_9 0 rfl rfl)
theorem dX6_canBe_214 : decode cX6_canBe 214 = .ok (.iload_n 3, 1) := dk_29 (dk_at dksX6_canBe_9 3 rfl rfl)
theorem dX6_canBe_215 : decode cX6_canBe 215 = .ok (.iconst 1, 1) := dk_4 (dk_at dksX6_canBe_9 4 rfl rfl)
theorem dX6_canBe_216 : decode cX6_canBe 216 = .ok (.iadd, 1) := dk_96 (dk_at dksX6_canBe_9 5 rfl rfl)
theorem dX6_canBe_217 : decode cX6_canBe 217 = .ok (.iaload, 1) := dk_46 (dk_at dksX6_canBe_9 6 rfl rfl)
theorem dX6_canBe_218 : decode cX6_canBe 218 = .ok (.i2l, 1) := dk_133 (dk_at dksX6_canBe_9 7 rfl rfl)
theorem dX6_canBe_219 : decode cX6_canBe 219 = .ok (.lcmp, 1) := dk_148 (dk_at dksX6_canBe_9 8 rfl rfl)
theorem dX6_canBe_220 : decode cX6_canBe 220 = .ok (.ifCond .lt 20, 3) := dk_155 0 20 (dk_at dksX6_canBe_9 9 rfl rfl)
theorem dX6_canBe_223 : decode cX6_canBe 223 = .ok (.aload_n 0, 1) := dk_42 (dk_at dksX6_canBe_9 12 rfl rfl)
theorem dX6_canBe_224 : decode cX6_canBe 224 = .ok (.getfield 396, 3) := dk_180 1 140 (dk_at dksX6_canBe_9 13 rfl rfl)
theorem dX6_canBe_227 : decode cX6_canBe 227 = .ok (.aload_n 0, 1) := dk_42 (dk_at dksX6_canBe_9 16 rfl rfl)
theorem dX6_canBe_228 : decode cX6_canBe 228 = .ok (.getfield 60, 3) := dk_180 0 60 (dk_at dksX6_canBe_9 17 rfl rfl)
theorem dX6_canBe_231 : decode cX6_canBe 231 = .ok (.iload_n 3, 1) := dk_29 (dk_at dksX6_canBe_9 20 rfl rfl)
theorem dX6_canBe_232 : decode cX6_canBe 232 = .ok (.iconst 2, 1) := dk_5 (dk_at dksX6_canBe_9 21 rfl rfl)
theorem dX6_canBe_233 : decode cX6_canBe 233 = .ok (.iadd, 1) := dk_96 (dk_at dksX6_canBe_9 22 rfl rfl)
theorem dX6_canBe_234 : decode cX6_canBe 234 = .ok (.iaload, 1) := dk_46 (dk_at dksX6_canBe_9 23 rfl rfl)
theorem dX6_canBe_235 : decode cX6_canBe 235 = .ok (.i2l, 1) := dk_133 (dk_at dksX6_canBe_10 0 rfl rfl)
theorem dX6_canBe_236 : decode cX6_canBe 236 = .ok (.lcmp, 1) := dk_148 (dk_at dksX6_canBe_10 1 rfl rfl)
theorem dX6_canBe_237 : decode cX6_canBe 237 = .ok (.ifCond .le 5, 3) := dk_158 0 5 (dk_at dksX6_canBe_10 2 rfl rfl)
theorem dX6_canBe_240 : decode cX6_canBe 240 = .ok (.iconst 0, 1) := dk_3 (dk_at dksX6_canBe_10 5 rfl rfl)
theorem dX6_canBe_241 : decode cX6_canBe 241 = .ok (.ireturn, 1) := dk_172 (dk_at dksX6_canBe_10 6 rfl rfl)
theorem dX6_canBe_242 : decode cX6_canBe 242 = .ok (.iload 4, 2) := dk_21 4 (dk_at dksX6_canBe_10 7 rfl rfl)
theorem dX6_canBe_244 : decode cX6_canBe 244 = .ok (.iconst 1, 1) := dk_4 (dk_at dksX6_canBe_10 9 rfl rfl)
theorem dX6_canBe_245 : decode cX6_canBe 245 = .ok (.invokestatic 297, 3) := dk_184 1 41 (dk_at dksX6_canBe_10 10 rfl rfl)
theorem dX6_canBe_248 : decode cX6_canBe 248 = .ok (.ifCond .eq 22, 3) := dk_153 0 22 (dk_at dksX6_canBe_10 13 rfl rfl)
theorem dX6_canBe_251 : decode cX6_canBe 251 = .ok (.aload_n 0, 1) := dk_42 (dk_at dksX6_canBe_10 16 rfl rfl)
theorem dX6_canBe_252 : decode cX6_canBe 252 = .ok (.getfield 399, 3) := dk_180 1 143 (dk_at dksX6_canBe_10 17 rfl rfl)
theorem dX6_canBe_255 : decode cX6_canBe 255 = .ok (.aload_n 0, 1) := dk_42 (dk_at dksX6_canBe_10 20 rfl rfl)
theorem dX6_canBe_256 : decode cX6_canBe 256 = .ok (.getfield 60, 3) := dk_180 0 60 (dk_at dksX6_canBe_10 21 rfl rfl)
theorem dX6_canBe_259 : decode cX6_canBe 259 = .ok (.iload_n 3, 1) := dk_29 (dk_at dksX6_canBe_11 0 rfl rfl)
theorem dX6_canBe_260 : decode cX6_canBe 260 = .ok (.iconst 3, 1) := dk_6 (dk_at dksX6_canBe_11 1 rfl rfl)
theorem dX6_canBe_261 : decode cX6_canBe 261 = .ok (.iadd, 1) := dk_96 (dk_at dksX6_canBe_11 2 rfl rfl)
theorem dX6_canBe_262 : decode cX6_canBe 262 = .ok (.iaload, 1) := dk_46 (dk_at dksX6_canBe_11 3 rfl rfl)
theorem dX6_canBe_263 : decode cX6_canBe 263 = .ok (.i2l, 1) := dk_133 (dk_at dksX6_canBe_11 4 rfl rfl)
theorem dX6_canBe_264 : decode cX6_canBe 264 = .ok (.lcmp, 1) := dk_148 (dk_at dksX6_canBe_11 5 rfl rfl)
theorem dX6_canBe_265 : decode cX6_canBe 265 = .ok (.ifCond .eq 5, 3) := dk_153 0 5 (dk_at dksX6_canBe_11 6 rfl rfl)
theorem dX6_canBe_268 : decode cX6_canBe 268 = .ok (.iconst 0, 1) := dk_3 (dk_at dksX6_canBe_11 9 rfl rfl)
theorem dX6_canBe_269 : decode cX6_canBe 269 = .ok (.ireturn, 1) := dk_172 (dk_at dksX6_canBe_11 10 rfl rfl)
theorem dX6_canBe_270 : decode cX6_canBe 270 = .ok (.iload 4, 2) := dk_21 4 (dk_at dksX6_canBe_11 11 rfl rfl)
theorem dX6_canBe_272 : decode cX6_canBe 272 = .ok (.bipush 6, 2) := dk_16 6 (dk_at dksX6_canBe_11 13 rfl rfl)
theorem dX6_canBe_274 : decode cX6_canBe 274 = .ok (.invokestatic 297, 3) := dk_184 1 41 (dk_at dksX6_canBe_11 15 rfl rfl)
theorem dX6_canBe_277 : decode cX6_canBe 277 = .ok (.ifCond .eq 23, 3) := dk_153 0 23 (dk_at dksX6_canBe_11 18 rfl rfl)
theorem dX6_canBe_280 : decode cX6_canBe 280 = .ok (.aload_n 0, 1) := dk_42 (dk_at dksX6_canBe_11 21 rfl rfl)
theorem dX6_canBe_281 : decode cX6_canBe 281 = .ok (.aload_n 0, 1) := dk_42 (dk_at dksX6_canBe_11 22 rfl rfl)
theorem dX6_canBe_282 : decode cX6_canBe 282 = .ok (.getfield 60, 3) := dk_180 0 60 (dk_at dksX6_canBe_12 0 rfl rfl)
theorem dX6_canBe_285 : decode cX6_canBe 285 = .ok (.iload_n 3, 1) := dk_29 (dk_at dksX6_canBe_12 3 rfl rfl)
theorem dX6_canBe_286 : decode cX6_canBe 286 = .ok (.bipush 8, 2) := dk_16 8 (dk_at dksX6_canBe_12 4 rfl rfl)
theorem dX6_canBe_288 : decode cX6_canBe 288 = .ok (.iadd, 1) := dk_96 (dk_at dksX6_canBe_12 6 rfl rfl)
theorem dX6_canBe_289 : decode cX6_canBe 289 = .ok (.iaload, 1) := dk_46 (dk_at dksX6_canBe_12 7 rfl rfl)
theorem dX6_canBe_290 : decode cX6_canBe 290 = .ok (.iload_n 2, 1) := dk_28 (dk_at dksX6_canBe_12 8 rfl rfl)
theorem dX6_canBe_291 : decode cX6_canBe 291 = .ok (.i2l, 1) := dk_133 (dk_at dksX6_canBe_12 9 rfl rfl)
theorem dX6_canBe_292 : decode cX6_canBe 292 = .ok (.invokevirtual 451, 3) := dk_182 1 195 (dk_at dksX6_canBe_12 10 rfl rfl)
theorem dX6_canBe_295 : decode cX6_canBe 295 = .ok (.lconst 0, 1) := dk_9 (dk_at dksX6_canBe_12 13 rfl rfl)
theorem dX6_canBe_296 : decode cX6_canBe 296 = .ok (.lcmp, 1) := dk_148 (dk_at dksX6_canBe_12 14 rfl rfl)
theorem dX6_canBe_297 : decode cX6_canBe 297 = .ok (.ifCond .eq 7, 3) := dk_153 0 7 (dk_at dksX6_canBe_12 15 rfl rfl)
theorem dX6_canBe_300 : decode cX6_canBe 300 = .ok (.iconst 1, 1) := dk_4 (dk_at dksX6_canBe_12 18 rfl rfl)
theorem dX6_canBe_301 : decode cX6_canBe 301 = .ok (.goto 4, 3) := dk_167 0 4 (dk_at dksX6_canBe_12 19 rfl rfl)
theorem dX6_canBe_304 : decode cX6_canBe 304 = .ok (.iconst 0, 1) := dk_3 (dk_at dksX6_canBe_12 22 rfl rfl)
theorem dX6_canBe_305 : decode cX6_canBe 305 = .ok (.ireturn, 1) := dk_172 (dk_at dksX6_canBe_12 23 rfl rfl)
abbrev cX6_told3 : ByteArray := prog_20_method_105_code
def yX6_told3 : MethodName := ⟨RX6, "told3", "(I)I"⟩
def dkwX6_told3_1 : List UInt8 := [180, 1, 247, 172]
abbrev dktX6_told3_1 : List UInt8 := dkwX6_told3_1 ++ []
def dkwX6_told3_0 : List UInt8 := [27, 154, 0, 10, 42, 180, 1, 241, 167, 0, 19, 27, 4, 160, 0, 10, 42, 180, 1, 244, 167, 0, 7, 42]
abbrev dktX6_told3_0 : List UInt8 := dkwX6_told3_0 ++ dktX6_told3_1
theorem dksX6_told3_0 : cX6_told3.data.toList.drop 0 = dktX6_told3_0 := by decide +kernel
theorem dksX6_told3_1 : cX6_told3.data.toList.drop 24 = dktX6_told3_1 := dk_seg dksX6_told3_0 24 rfl rfl
theorem dX6_told3_0 : decode cX6_told3 0 = .ok (.iload_n 1, 1) := dk_27 (dk_at dksX6_told3_0 0 rfl rfl)
theorem dX6_told3_1 : decode cX6_told3 1 = .ok (.ifCond .ne 10, 3) := dk_154 0 10 (dk_at dksX6_told3_0 1 rfl rfl)
theorem dX6_told3_4 : decode cX6_told3 4 = .ok (.aload_n 0, 1) := dk_42 (dk_at dksX6_told3_0 4 rfl rfl)
theorem dX6_told3_5 : decode cX6_told3 5 = .ok (.getfield 497, 3) := dk_180 1 241 (dk_at dksX6_told3_0 5 rfl rfl)
theorem dX6_told3_8 : decode cX6_told3 8 = .ok (.goto 19, 3) := dk_167 0 19 (dk_at dksX6_told3_0 8 rfl rfl)
theorem dX6_told3_11 : decode cX6_told3 11 = .ok (.iload_n 1, 1) := dk_27 (dk_at dksX6_told3_0 11 rfl rfl)
theorem dX6_told3_12 : decode cX6_told3 12 = .ok (.iconst 1, 1) := dk_4 (dk_at dksX6_told3_0 12 rfl rfl)
theorem dX6_told3_13 : decode cX6_told3 13 = .ok (.if_icmp .ne 10, 3) := dk_160 0 10 (dk_at dksX6_told3_0 13 rfl rfl)
theorem dX6_told3_16 : decode cX6_told3 16 = .ok (.aload_n 0, 1) := dk_42 (dk_at dksX6_told3_0 16 rfl rfl)
theorem dX6_told3_17 : decode cX6_told3 17 = .ok (.getfield 500, 3) := dk_180 1 244 (dk_at dksX6_told3_0 17 rfl rfl)
theorem dX6_told3_20 : decode cX6_told3 20 = .ok (.goto 7, 3) := dk_167 0 7 (dk_at dksX6_told3_0 20 rfl rfl)
theorem dX6_told3_23 : decode cX6_told3 23 = .ok (.aload_n 0, 1) := dk_42 (dk_at dksX6_told3_0 23 rfl rfl)
theorem dX6_told3_24 : decode cX6_told3 24 = .ok (.getfield 503, 3) := dk_180 1 247 (dk_at dksX6_told3_1 0 rfl rfl)
theorem dX6_told3_27 : decode cX6_told3 27 = .ok (.ireturn, 1) := dk_172 (dk_at dksX6_told3_1 3 rfl rfl)
abbrev cX6_fits : ByteArray := prog_20_method_112_code
def yX6_fits : MethodName := ⟨RX6, "fits", "(II)I"⟩
def dkwX6_fits_5 : List UInt8 := [42, 28, 182, 2, 0, 42, 180, 0, 95, 27, 46, 96, 172]
abbrev dktX6_fits_5 : List UInt8 := dkwX6_fits_5 ++ []
def dkwX6_fits_4 : List UInt8 := [182, 2, 9, 42, 180, 0, 92, 27, 46, 3, 182, 2, 15, 28, 154, 0, 10, 42, 180, 1, 241, 167, 0, 15]
abbrev dktX6_fits_4 : List UInt8 := dkwX6_fits_4 ++ dktX6_fits_5
def dkwX6_fits_3 : List UInt8 := [180, 1, 241, 154, 0, 13, 28, 154, 0, 7, 3, 167, 0, 4, 2, 172, 132, 3, 1, 167, 255, 205, 42, 42]
abbrev dktX6_fits_3 : List UInt8 := dkwX6_fits_3 ++ dktX6_fits_4
def dkwX6_fits_2 : List UInt8 := [180, 0, 92, 29, 46, 29, 159, 0, 6, 167, 0, 30, 42, 42, 182, 2, 9, 29, 4, 182, 2, 15, 42]
abbrev dktX6_fits_2 : List UInt8 := dkwX6_fits_2 ++ dktX6_fits_3
def dkwX6_fits_1 : List UInt8 := [42, 182, 2, 6, 42, 42, 182, 2, 9, 182, 2, 12, 3, 62, 29, 42, 180, 0, 229, 162, 0, 49, 42]
abbrev dktX6_fits_1 : List UInt8 := dkwX6_fits_1 ++ dktX6_fits_2
def dkwX6_fits_0 : List UInt8 := [42, 3, 181, 0, 119, 42, 27, 182, 1, 250, 153, 0, 12, 28, 3, 5, 184, 0, 166, 154, 0, 5, 2, 172]
abbrev dktX6_fits_0 : List UInt8 := dkwX6_fits_0 ++ dktX6_fits_1
theorem dksX6_fits_0 : cX6_fits.data.toList.drop 0 = dktX6_fits_0 := by decide +kernel
theorem dksX6_fits_1 : cX6_fits.data.toList.drop 24 = dktX6_fits_1 := dk_seg dksX6_fits_0 24 rfl rfl
theorem dksX6_fits_2 : cX6_fits.data.toList.drop 47 = dktX6_fits_2 := dk_seg dksX6_fits_1 23 rfl rfl
theorem dksX6_fits_3 : cX6_fits.data.toList.drop 70 = dktX6_fits_3 := dk_seg dksX6_fits_2 23 rfl rfl
theorem dksX6_fits_4 : cX6_fits.data.toList.drop 94 = dktX6_fits_4 := dk_seg dksX6_fits_3 24 rfl rfl
theorem dksX6_fits_5 : cX6_fits.data.toList.drop 118 = dktX6_fits_5 := dk_seg dksX6_fits_4 24 rfl rfl
theorem dX6_fits_0 : decode cX6_fits 0 = .ok (.aload_n 0, 1) := dk_42 (dk_at dksX6_fits_0 0 rfl rfl)
theorem dX6_fits_1 : decode cX6_fits 1 = .ok (.iconst 0, 1) := dk_3 (dk_at dksX6_fits_0 1 rfl rfl)
theorem dX6_fits_2 : decode cX6_fits 2 = .ok (.putfield 119, 3) := dk_181 0 119 (dk_at dksX6_fits_0 2 rfl rfl)
theorem dX6_fits_5 : decode cX6_fits 5 = .ok (.aload_n 0, 1) := dk_42 (dk_at dksX6_fits_0 5 rfl rfl)
theorem dX6_fits_6 : decode cX6_fits 6 = .ok (.iload_n 1, 1) := dk_27 (dk_at dksX6_fits_0 6 rfl rfl)
theorem dX6_fits_7 : decode cX6_fits 7 = .ok (.invokevirtual 506, 3) := dk_182 1 250 (dk_at dksX6_fits_0 7 rfl rfl)
theorem dX6_fits_10 : decode cX6_fits 10 = .ok (.ifCond .eq 12, 3) := dk_153 0 12 (dk_at dksX6_fits_0 10 rfl rfl)
theorem dX6_fits_13 : decode cX6_fits 13 = .ok (.iload_n 2, 1) := dk_28 (dk_at dksX6_fits_0 13 rfl rfl)
theorem dX6_fits_14 : decode cX6_fits 14 = .ok (.iconst 0, 1) := dk_3 (dk_at dksX6_fits_0 14 rfl rfl)
theorem dX6_fits_15 : decode cX6_fits 15 = .ok (.iconst 2, 1) := dk_5 (dk_at dksX6_fits_0 15 rfl rfl)
theorem dX6_fits_16 : decode cX6_fits 16 = .ok (.invokestatic 166, 3) := dk_184 0 166 (dk_at dksX6_fits_0 16 rfl rfl)
theorem dX6_fits_19 : decode cX6_fits 19 = .ok (.ifCond .ne 5, 3) := dk_154 0 5 (dk_at dksX6_fits_0 19 rfl rfl)
theorem dX6_fits_22 : decode cX6_fits 22 = .ok (.iconst (-1), 1) := dk_2 (dk_at dksX6_fits_0 22 rfl rfl)
theorem dX6_fits_23 : decode cX6_fits 23 = .ok (.ireturn, 1) := dk_172 (dk_at dksX6_fits_0 23 rfl rfl)
theorem dX6_fits_24 : decode cX6_fits 24 = .ok (.aload_n 0, 1) := dk_42 (dk_at dksX6_fits_1 0 rfl rfl)
theorem dX6_fits_25 : decode cX6_fits 25 = .ok (.invokevirtual 518, 3) := dk_182 2 6 (dk_at dksX6_fits_1 1 rfl rfl)
theorem dX6_fits_28 : decode cX6_fits 28 = .ok (.aload_n 0, 1) := dk_42 (dk_at dksX6_fits_1 4 rfl rfl)
theorem dX6_fits_29 : decode cX6_fits 29 = .ok (.aload_n 0, 1) := dk_42 (dk_at dksX6_fits_1 5 rfl rfl)
theorem dX6_fits_30 : decode cX6_fits 30 = .ok (.invokevirtual 521, 3) := dk_182 2 9 (dk_at dksX6_fits_1 6 rfl rfl)
theorem dX6_fits_33 : decode cX6_fits 33 = .ok (.invokevirtual 524, 3) := dk_182 2 12 (dk_at dksX6_fits_1 9 rfl rfl)
theorem dX6_fits_36 : decode cX6_fits 36 = .ok (.iconst 0, 1) := dk_3 (dk_at dksX6_fits_1 12 rfl rfl)
theorem dX6_fits_37 : decode cX6_fits 37 = .ok (.istore_n 3, 1) := dk_62 (dk_at dksX6_fits_1 13 rfl rfl)
theorem dX6_fits_38 : decode cX6_fits 38 = .ok (.iload_n 3, 1) := dk_29 (dk_at dksX6_fits_1 14 rfl rfl)
theorem dX6_fits_39 : decode cX6_fits 39 = .ok (.aload_n 0, 1) := dk_42 (dk_at dksX6_fits_1 15 rfl rfl)
theorem dX6_fits_40 : decode cX6_fits 40 = .ok (.getfield 229, 3) := dk_180 0 229 (dk_at dksX6_fits_1 16 rfl rfl)
theorem dX6_fits_43 : decode cX6_fits 43 = .ok (.if_icmp .ge 49, 3) := dk_162 0 49 (dk_at dksX6_fits_1 19 rfl rfl)
theorem dX6_fits_46 : decode cX6_fits 46 = .ok (.aload_n 0, 1) := dk_42 (dk_at dksX6_fits_1 22 rfl rfl)
theorem dX6_fits_47 : decode cX6_fits 47 = .ok (.getfield 92, 3) := dk_180 0 92 (dk_at dksX6_fits_2 0 rfl rfl)
theorem dX6_fits_50 : decode cX6_fits 50 = .ok (.iload_n 3, 1) := dk_29 (dk_at dksX6_fits_2 3 rfl rfl)
theorem dX6_fits_51 : decode cX6_fits 51 = .ok (.iaload, 1) := dk_46 (dk_at dksX6_fits_2 4 rfl rfl)
theorem dX6_fits_52 : decode cX6_fits 52 = .ok (.iload_n 3, 1) := dk_29 (dk_at dksX6_fits_2 5 rfl rfl)
theorem dX6_fits_53 : decode cX6_fits 53 = .ok (.if_icmp .eq 6, 3) := dk_159 0 6 (dk_at dksX6_fits_2 6 rfl rfl)
theorem dX6_fits_56 : decode cX6_fits 56 = .ok (.goto 30, 3) := dk_167 0 30 (dk_at dksX6_fits_2 9 rfl rfl)
theorem dX6_fits_59 : decode cX6_fits 59 = .ok (.aload_n 0, 1) := dk_42 (dk_at dksX6_fits_2 12 rfl rfl)
theorem dX6_fits_60 : decode cX6_fits 60 = .ok (.aload_n 0, 1) := dk_42 (dk_at dksX6_fits_2 13 rfl rfl)
theorem dX6_fits_61 : decode cX6_fits 61 = .ok (.invokevirtual 521, 3) := dk_182 2 9 (dk_at dksX6_fits_2 14 rfl rfl)
theorem dX6_fits_64 : decode cX6_fits 64 = .ok (.iload_n 3, 1) := dk_29 (dk_at dksX6_fits_2 17 rfl rfl)
theorem dX6_fits_65 : decode cX6_fits 65 = .ok (.iconst 1, 1) := dk_4 (dk_at dksX6_fits_2 18 rfl rfl)
theorem dX6_fits_66 : decode cX6_fits 66 = .ok (.invokevirtual 527, 3) := dk_182 2 15 (dk_at dksX6_fits_2 19 rfl rfl)
theorem dX6_fits_69 : decode cX6_fits 69 = .ok (.aload_n 0, 1) := dk_42 (dk_at dksX6_fits_2 22 rfl rfl)
theorem dX6_fits_70 : decode cX6_fits 70 = .ok (.getfield 497, 3) := dk_180 1 241 (dk_at dksX6_fits_3 0 rfl rfl)
theorem dX6_fits_73 : decode cX6_fits 73 = .ok (.ifCond .ne 13, 3) := dk_154 0 13 (dk_at dksX6_fits_3 3 rfl rfl)
theorem dX6_fits_76 : decode cX6_fits 76 = .ok (.iload_n 2, 1) := dk_28 (dk_at dksX6_fits_3 6 rfl rfl)
theorem dX6_fits_77 : decode cX6_fits 77 = .ok (.ifCond .ne 7, 3) := dk_154 0 7 (dk_at dksX6_fits_3 7 rfl rfl)
theorem dX6_fits_80 : decode cX6_fits 80 = .ok (.iconst 0, 1) := dk_3 (dk_at dksX6_fits_3 10 rfl rfl)
theorem dX6_fits_81 : decode cX6_fits 81 = .ok (.goto 4, 3) := dk_167 0 4 (dk_at dksX6_fits_3 11 rfl rfl)
theorem dX6_fits_84 : decode cX6_fits 84 = .ok (.iconst (-1), 1) := dk_2 (dk_at dksX6_fits_3 14 rfl rfl)
theorem dX6_fits_85 : decode cX6_fits 85 = .ok (.ireturn, 1) := dk_172 (dk_at dksX6_fits_3 15 rfl rfl)
theorem dX6_fits_86 : decode cX6_fits 86 = .ok (.iinc 3 1, 3) := dk_132 3 1 (dk_at dksX6_fits_3 16 rfl rfl)
theorem dX6_fits_89 : decode cX6_fits 89 = .ok (.goto (-51), 3) := dk_167 255 205 (dk_at dksX6_fits_3 19 rfl rfl)
theorem dX6_fits_92 : decode cX6_fits 92 = .ok (.aload_n 0, 1) := dk_42 (dk_at dksX6_fits_3 22 rfl rfl)
theorem dX6_fits_93 : decode cX6_fits 93 = .ok (.aload_n 0, 1) := dk_42 (dk_at dksX6_fits_3 23 rfl rfl)
theorem dX6_fits_94 : decode cX6_fits 94 = .ok (.invokevirtual 521, 3) := dk_182 2 9 (dk_at dksX6_fits_4 0 rfl rfl)
theorem dX6_fits_97 : decode cX6_fits 97 = .ok (.aload_n 0, 1) := dk_42 (dk_at dksX6_fits_4 3 rfl rfl)
theorem dX6_fits_98 : decode cX6_fits 98 = .ok (.getfield 92, 3) := dk_180 0 92 (dk_at dksX6_fits_4 4 rfl rfl)
theorem dX6_fits_101 : decode cX6_fits 101 = .ok (.iload_n 1, 1) := dk_27 (dk_at dksX6_fits_4 7 rfl rfl)
theorem dX6_fits_102 : decode cX6_fits 102 = .ok (.iaload, 1) := dk_46 (dk_at dksX6_fits_4 8 rfl rfl)
theorem dX6_fits_103 : decode cX6_fits 103 = .ok (.iconst 0, 1) := dk_3 (dk_at dksX6_fits_4 9 rfl rfl)
theorem dX6_fits_104 : decode cX6_fits 104 = .ok (.invokevirtual 527, 3) := dk_182 2 15 (dk_at dksX6_fits_4 10 rfl rfl)
theorem dX6_fits_107 : decode cX6_fits 107 = .ok (.iload_n 2, 1) := dk_28 (dk_at dksX6_fits_4 13 rfl rfl)
theorem dX6_fits_108 : decode cX6_fits 108 = .ok (.ifCond .ne 10, 3) := dk_154 0 10 (dk_at dksX6_fits_4 14 rfl rfl)
theorem dX6_fits_111 : decode cX6_fits 111 = .ok (.aload_n 0, 1) := dk_42 (dk_at dksX6_fits_4 17 rfl rfl)
theorem dX6_fits_112 : decode cX6_fits 112 = .ok (.getfield 497, 3) := dk_180 1 241 (dk_at dksX6_fits_4 18 rfl rfl)
theorem dX6_fits_115 : decode cX6_fits 115 = .ok (.goto 15, 3) := dk_167 0 15 (dk_at dksX6_fits_4 21 rfl rfl)
theorem dX6_fits_118 : decode cX6_fits 118 = .ok (.aload_n 0, 1) := dk_42 (dk_at dksX6_fits_5 0 rfl rfl)
theorem dX6_fits_119 : decode cX6_fits 119 = .ok (.iload_n 2, 1) := dk_28 (dk_at dksX6_fits_5 1 rfl rfl)
theorem dX6_fits_120 : decode cX6_fits 120 = .ok (.invokevirtual 512, 3) := dk_182 2 0 (dk_at dksX6_fits_5 2 rfl rfl)
theorem dX6_fits_123 : decode cX6_fits 123 = .ok (.aload_n 0, 1) := dk_42 (dk_at dksX6_fits_5 5 rfl rfl)
theorem dX6_fits_124 : decode cX6_fits 124 = .ok (.getfield 95, 3) := dk_180 0 95 (dk_at dksX6_fits_5 6 rfl rfl)
theorem dX6_fits_127 : decode cX6_fits 127 = .ok (.iload_n 1, 1) := dk_27 (dk_at dksX6_fits_5 9 rfl rfl)
theorem dX6_fits_128 : decode cX6_fits 128 = .ok (.iaload, 1) := dk_46 (dk_at dksX6_fits_5 10 rfl rfl)
theorem dX6_fits_129 : decode cX6_fits 129 = .ok (.iadd, 1) := dk_96 (dk_at dksX6_fits_5 11 rfl rfl)
theorem dX6_fits_130 : decode cX6_fits 130 = .ok (.ireturn, 1) := dk_172 (dk_at dksX6_fits_5 12 rfl rfl)
abbrev cX6_layAllCan : ByteArray := prog_20_method_110_code
def yX6_layAllCan : MethodName := ⟨RX6, "layAllCan", "()V"⟩
def dkwX6_layAllCan_0 : List UInt8 := [3, 60, 27, 42, 180, 0, 229, 162, 0, 14, 42, 27, 182, 1, 253, 132, 1, 1, 167, 255, 240, 177]
abbrev dktX6_layAllCan_0 : List UInt8 := dkwX6_layAllCan_0 ++ []
theorem dksX6_layAllCan_0 : cX6_layAllCan.data.toList.drop 0 = dktX6_layAllCan_0 := by decide +kernel
theorem dX6_layAllCan_0 : decode cX6_layAllCan 0 = .ok (.iconst 0, 1) := dk_3 (dk_at dksX6_layAllCan_0 0 rfl rfl)
theorem dX6_layAllCan_1 : decode cX6_layAllCan 1 = .ok (.istore_n 1, 1) := dk_60 (dk_at dksX6_layAllCan_0 1 rfl rfl)
theorem dX6_layAllCan_2 : decode cX6_layAllCan 2 = .ok (.iload_n 1, 1) := dk_27 (dk_at dksX6_layAllCan_0 2 rfl rfl)
theorem dX6_layAllCan_3 : decode cX6_layAllCan 3 = .ok (.aload_n 0, 1) := dk_42 (dk_at dksX6_layAllCan_0 3 rfl rfl)
theorem dX6_layAllCan_4 : decode cX6_layAllCan 4 = .ok (.getfield 229, 3) := dk_180 0 229 (dk_at dksX6_layAllCan_0 4 rfl rfl)
theorem dX6_layAllCan_7 : decode cX6_layAllCan 7 = .ok (.if_icmp .ge 14, 3) := dk_162 0 14 (dk_at dksX6_layAllCan_0 7 rfl rfl)
theorem dX6_layAllCan_10 : decode cX6_layAllCan 10 = .ok (.aload_n 0, 1) := dk_42 (dk_at dksX6_layAllCan_0 10 rfl rfl)
theorem dX6_layAllCan_11 : decode cX6_layAllCan 11 = .ok (.iload_n 1, 1) := dk_27 (dk_at dksX6_layAllCan_0 11 rfl rfl)
theorem dX6_layAllCan_12 : decode cX6_layAllCan 12 = .ok (.invokevirtual 509, 3) := dk_182 1 253 (dk_at dksX6_layAllCan_0 12 rfl rfl)
theorem dX6_layAllCan_15 : decode cX6_layAllCan 15 = .ok (.iinc 1 1, 3) := dk_132 1 1 (dk_at dksX6_layAllCan_0 15 rfl rfl)
theorem dX6_layAllCan_18 : decode cX6_layAllCan 18 = .ok (.goto (-16), 3) := dk_167 255 240 (dk_at dksX6_layAllCan_0 18 rfl rfl)
theorem dX6_layAllCan_21 : decode cX6_layAllCan 21 = .ok (.return_, 1) := dk_177 (dk_at dksX6_layAllCan_0 21 rfl rfl)
abbrev cX6_allNotes : ByteArray := prog_20_method_111_code
def yX6_allNotes : MethodName := ⟨RX6, "allNotes", "()I"⟩
def dkwX6_allNotes_0 : List UInt8 := [4, 42, 180, 0, 229, 120, 4, 100, 172]
abbrev dktX6_allNotes_0 : List UInt8 := dkwX6_allNotes_0 ++ []
theorem dksX6_allNotes_0 : cX6_allNotes.data.toList.drop 0 = dktX6_allNotes_0 := by decide +kernel
theorem dX6_allNotes_0 : decode cX6_allNotes 0 = .ok (.iconst 1, 1) := dk_4 (dk_at dksX6_allNotes_0 0 rfl rfl)
theorem dX6_allNotes_1 : decode cX6_allNotes 1 = .ok (.aload_n 0, 1) := dk_42 (dk_at dksX6_allNotes_0 1 rfl rfl)
theorem dX6_allNotes_2 : decode cX6_allNotes 2 = .ok (.getfield 229, 3) := dk_180 0 229 (dk_at dksX6_allNotes_0 2 rfl rfl)
theorem dX6_allNotes_5 : decode cX6_allNotes 5 = .ok (.ishl, 1) := dk_120 (dk_at dksX6_allNotes_0 5 rfl rfl)
theorem dX6_allNotes_6 : decode cX6_allNotes 6 = .ok (.iconst 1, 1) := dk_4 (dk_at dksX6_allNotes_0 6 rfl rfl)
theorem dX6_allNotes_7 : decode cX6_allNotes 7 = .ok (.isub, 1) := dk_100 (dk_at dksX6_allNotes_0 7 rfl rfl)
theorem dX6_allNotes_8 : decode cX6_allNotes 8 = .ok (.ireturn, 1) := dk_172 (dk_at dksX6_allNotes_0 8 rfl rfl)
abbrev cX6_layRoots : ByteArray := prog_20_method_107_code
def yX6_layRoots : MethodName := ⟨RX6, "layRoots", "(I)V"⟩
def dkwX6_layRoots_4 : List UInt8 := [180, 0, 60, 16, 11, 28, 104, 16, 10, 96, 46, 96, 167, 0, 4, 3, 79, 132, 2, 1, 167, 255, 145, 177]
abbrev dktX6_layRoots_4 : List UInt8 := dkwX6_layRoots_4 ++ []
def dkwX6_layRoots_3 : List UInt8 := [167, 0, 4, 28, 79, 42, 180, 0, 95, 28, 21, 4, 153, 0, 25, 42, 180, 0, 95, 29, 46, 42]
abbrev dktX6_layRoots_3 : List UInt8 := dkwX6_layRoots_3 ++ dktX6_layRoots_4
def dkwX6_layRoots_2 : List UInt8 := [4, 167, 0, 4, 3, 54, 4, 42, 180, 0, 92, 28, 21, 4, 153, 0, 12, 42, 180, 0, 92, 29, 46]
abbrev dktX6_layRoots_2 : List UInt8 := dkwX6_layRoots_2 ++ dktX6_layRoots_3
def dkwX6_layRoots_1 : List UInt8 := [180, 0, 60, 16, 11, 28, 104, 46, 16, 7, 184, 1, 41, 153, 0, 15, 27, 29, 184, 1, 41, 153, 0, 7]
abbrev dktX6_layRoots_1 : List UInt8 := dkwX6_layRoots_1 ++ dktX6_layRoots_2
def dkwX6_layRoots_0 : List UInt8 := [3, 61, 28, 42, 180, 0, 229, 162, 0, 109, 42, 180, 0, 60, 16, 11, 28, 104, 16, 9, 96, 46, 62, 42]
abbrev dktX6_layRoots_0 : List UInt8 := dkwX6_layRoots_0 ++ dktX6_layRoots_1
theorem dksX6_layRoots_0 : cX6_layRoots.data.toList.drop 0 = dktX6_layRoots_0 := by decide +kernel
theorem dksX6_layRoots_1 : cX6_layRoots.data.toList.drop 24 = dktX6_layRoots_1 := dk_seg dksX6_layRoots_0 24 rfl rfl
theorem dksX6_layRoots_2 : cX6_layRoots.data.toList.drop 48 = dktX6_layRoots_2 := dk_seg dksX6_layRoots_1 24 rfl rfl
theorem dksX6_layRoots_3 : cX6_layRoots.data.toList.drop 71 = dktX6_layRoots_3 := dk_seg dksX6_layRoots_2 23 rfl rfl
theorem dksX6_layRoots_4 : cX6_layRoots.data.toList.drop 93 = dktX6_layRoots_4 := dk_seg dksX6_layRoots_3 22 rfl rfl
theorem dX6_layRoots_0 : decode cX6_layRoots 0 = .ok (.iconst 0, 1) := dk_3 (dk_at dksX6_layRoots_0 0 rfl rfl)
theorem dX6_layRoots_1 : decode cX6_layRoots 1 = .ok (.istore_n 2, 1) := dk_61 (dk_at dksX6_layRoots_0 1 rfl rfl)
theorem dX6_layRoots_2 : decode cX6_layRoots 2 = .ok (.iload_n 2, 1) := dk_28 (dk_at dksX6_layRoots_0 2 rfl rfl)
theorem dX6_layRoots_3 : decode cX6_layRoots 3 = .ok (.aload_n 0, 1) := dk_42 (dk_at dksX6_layRoots_0 3 rfl rfl)
theorem dX6_layRoots_4 : decode cX6_layRoots 4 = .ok (.getfield 229, 3) := dk_180 0 229 (dk_at dksX6_layRoots_0 4 rfl rfl)
theorem dX6_layRoots_7 : decode cX6_layRoots 7 = .ok (.if_icmp .ge 109, 3) := dk_162 0 109 (dk_at dksX6_layRoots_0 7 rfl rfl)
theorem dX6_layRoots_10 : decode cX6_layRoots 10 = .ok (.aload_n 0, 1) := dk_42 (dk_at dksX6_layRoots_0 10 rfl rfl)
theorem dX6_layRoots_11 : decode cX6_layRoots 11 = .ok (.getfield 60, 3) := dk_180 0 60 (dk_at dksX6_layRoots_0 11 rfl rfl)
theorem dX6_layRoots_14 : decode cX6_layRoots 14 = .ok (.bipush 11, 2) := dk_16 11 (dk_at dksX6_layRoots_0 14 rfl rfl)
theorem dX6_layRoots_16 : decode cX6_layRoots 16 = .ok (.iload_n 2, 1) := dk_28 (dk_at dksX6_layRoots_0 16 rfl rfl)
theorem dX6_layRoots_17 : decode cX6_layRoots 17 = .ok (.imul, 1) := dk_104 (dk_at dksX6_layRoots_0 17 rfl rfl)
theorem dX6_layRoots_18 : decode cX6_layRoots 18 = .ok (.bipush 9, 2) := dk_16 9 (dk_at dksX6_layRoots_0 18 rfl rfl)
theorem dX6_layRoots_20 : decode cX6_layRoots 20 = .ok (.iadd, 1) := dk_96 (dk_at dksX6_layRoots_0 20 rfl rfl)
theorem dX6_layRoots_21 : decode cX6_layRoots 21 = .ok (.iaload, 1) := dk_46 (dk_at dksX6_layRoots_0 21 rfl rfl)
theorem dX6_layRoots_22 : decode cX6_layRoots 22 = .ok (.istore_n 3, 1) := dk_62 (dk_at dksX6_layRoots_0 22 rfl rfl)
theorem dX6_layRoots_23 : decode cX6_layRoots 23 = .ok (.aload_n 0, 1) := dk_42 (dk_at dksX6_layRoots_0 23 rfl rfl)
theorem dX6_layRoots_24 : decode cX6_layRoots 24 = .ok (.getfield 60, 3) := dk_180 0 60 (dk_at dksX6_layRoots_1 0 rfl rfl)
theorem dX6_layRoots_27 : decode cX6_layRoots 27 = .ok (.bipush 11, 2) := dk_16 11 (dk_at dksX6_layRoots_1 3 rfl rfl)
theorem dX6_layRoots_29 : decode cX6_layRoots 29 = .ok (.iload_n 2, 1) := dk_28 (dk_at dksX6_layRoots_1 5 rfl rfl)
theorem dX6_layRoots_30 : decode cX6_layRoots 30 = .ok (.imul, 1) := dk_104 (dk_at dksX6_layRoots_1 6 rfl rfl)
theorem dX6_layRoots_31 : decode cX6_layRoots 31 = .ok (.iaload, 1) := dk_46 (dk_at dksX6_layRoots_1 7 rfl rfl)
theorem dX6_layRoots_32 : decode cX6_layRoots 32 = .ok (.bipush 7, 2) := dk_16 7 (dk_at dksX6_layRoots_1 8 rfl rfl)
theorem dX6_layRoots_34 : decode cX6_layRoots 34 = .ok (.invokestatic 297, 3) := dk_184 1 41 (dk_at dksX6_layRoots_1 10 rfl rfl)
theorem dX6_layRoots_37 : decode cX6_layRoots 37 = .ok (.ifCond .eq 15, 3) := dk_153 0 15 (dk_at dksX6_layRoots_1 13 rfl rfl)
theorem dX6_layRoots_40 : decode cX6_layRoots 40 = .ok (.iload_n 1, 1) := dk_27 (dk_at dksX6_layRoots_1 16 rfl rfl)
theorem dX6_layRoots_41 : decode cX6_layRoots 41 = .ok (.iload_n 3, 1) := dk_29 (dk_at dksX6_layRoots_1 17 rfl rfl)
theorem dX6_layRoots_42 : decode cX6_layRoots 42 = .ok (.invokestatic 297, 3) := dk_184 1 41 (dk_at dksX6_layRoots_1 18 rfl rfl)
theorem dX6_layRoots_45 : decode cX6_layRoots 45 = .ok (.ifCond .eq 7, 3) := dk_153 0 7 (dk_at dksX6_layRoots_1 21 rfl rfl)
theorem dX6_layRoots_48 : decode cX6_layRoots 48 = .ok (.iconst 1, 1) := dk_4 (dk_at dksX6_layRoots_2 0 rfl rfl)
theorem dX6_layRoots_49 : decode cX6_layRoots 49 = .ok (.goto 4, 3) := dk_167 0 4 (dk_at dksX6_layRoots_2 1 rfl rfl)
theorem dX6_layRoots_52 : decode cX6_layRoots 52 = .ok (.iconst 0, 1) := dk_3 (dk_at dksX6_layRoots_2 4 rfl rfl)
theorem dX6_layRoots_53 : decode cX6_layRoots 53 = .ok (.istore 4, 2) := dk_54 4 (dk_at dksX6_layRoots_2 5 rfl rfl)
theorem dX6_layRoots_55 : decode cX6_layRoots 55 = .ok (.aload_n 0, 1) := dk_42 (dk_at dksX6_layRoots_2 7 rfl rfl)
theorem dX6_layRoots_56 : decode cX6_layRoots 56 = .ok (.getfield 92, 3) := dk_180 0 92 (dk_at dksX6_layRoots_2 8 rfl rfl)
theorem dX6_layRoots_59 : decode cX6_layRoots 59 = .ok (.iload_n 2, 1) := dk_28 (dk_at dksX6_layRoots_2 11 rfl rfl)
theorem dX6_layRoots_60 : decode cX6_layRoots 60 = .ok (.iload 4, 2) := dk_21 4 (dk_at dksX6_layRoots_2 12 rfl rfl)
theorem dX6_layRoots_62 : decode cX6_layRoots 62 = .ok (.ifCond .eq 12, 3) := dk_153 0 12 (dk_at dksX6_layRoots_2 14 rfl rfl)
theorem dX6_layRoots_65 : decode cX6_layRoots 65 = .ok (.aload_n 0, 1) := dk_42 (dk_at dksX6_layRoots_2 17 rfl rfl)
theorem dX6_layRoots_66 : decode cX6_layRoots 66 = .ok (.getfield 92, 3) := dk_180 0 92 (dk_at dksX6_layRoots_2 18 rfl rfl)
theorem dX6_layRoots_69 : decode cX6_layRoots 69 = .ok (.iload_n 3, 1) := dk_29 (dk_at dksX6_layRoots_2 21 rfl rfl)
theorem dX6_layRoots_70 : decode cX6_layRoots 70 = .ok (.iaload, 1) := dk_46 (dk_at dksX6_layRoots_2 22 rfl rfl)
theorem dX6_layRoots_71 : decode cX6_layRoots 71 = .ok (.goto 4, 3) := dk_167 0 4 (dk_at dksX6_layRoots_3 0 rfl rfl)
theorem dX6_layRoots_74 : decode cX6_layRoots 74 = .ok (.iload_n 2, 1) := dk_28 (dk_at dksX6_layRoots_3 3 rfl rfl)
theorem dX6_layRoots_75 : decode cX6_layRoots 75 = .ok (.iastore, 1) := dk_79 (dk_at dksX6_layRoots_3 4 rfl rfl)
theorem dX6_layRoots_76 : decode cX6_layRoots 76 = .ok (.aload_n 0, 1) := dk_42 (dk_at dksX6_layRoots_3 5 rfl rfl)
theorem dX6_layRoots_77 : decode cX6_layRoots 77 = .ok (.getfield 95, 3) := dk_180 0 95 (dk_at dksX6_layRoots_3 6 rfl rfl)
theorem dX6_layRoots_80 : decode cX6_layRoots 80 = .ok (.iload_n 2, 1) := dk_28 (dk_at dksX6_layRoots_3 9 rfl rfl)
theorem dX6_layRoots_81 : decode cX6_layRoots 81 = .ok (.iload 4, 2) := dk_21 4 (dk_at dksX6_layRoots_3 10 rfl rfl)
theorem dX6_layRoots_83 : decode cX6_layRoots 83 = .ok (.ifCond .eq 25, 3) := dk_153 0 25 (dk_at dksX6_layRoots_3 12 rfl rfl)
theorem dX6_layRoots_86 : decode cX6_layRoots 86 = .ok (.aload_n 0, 1) := dk_42 (dk_at dksX6_layRoots_3 15 rfl rfl)
theorem dX6_layRoots_87 : decode cX6_layRoots 87 = .ok (.getfield 95, 3) := dk_180 0 95 (dk_at dksX6_layRoots_3 16 rfl rfl)
theorem dX6_layRoots_90 : decode cX6_layRoots 90 = .ok (.iload_n 3, 1) := dk_29 (dk_at dksX6_layRoots_3 19 rfl rfl)
theorem dX6_layRoots_91 : decode cX6_layRoots 91 = .ok (.iaload, 1) := dk_46 (dk_at dksX6_layRoots_3 20 rfl rfl)
theorem dX6_layRoots_92 : decode cX6_layRoots 92 = .ok (.aload_n 0, 1) := dk_42 (dk_at dksX6_layRoots_3 21 rfl rfl)
theorem dX6_layRoots_93 : decode cX6_layRoots 93 = .ok (.getfield 60, 3) := dk_180 0 60 (dk_at dksX6_layRoots_4 0 rfl rfl)
theorem dX6_layRoots_96 : decode cX6_layRoots 96 = .ok (.bipush 11, 2) := dk_16 11 (dk_at dksX6_layRoots_4 3 rfl rfl)
theorem dX6_layRoots_98 : decode cX6_layRoots 98 = .ok (.iload_n 2, 1) := dk_28 (dk_at dksX6_layRoots_4 5 rfl rfl)
theorem dX6_layRoots_99 : decode cX6_layRoots 99 = .ok (.imul, 1) := dk_104 (dk_at dksX6_layRoots_4 6 rfl rfl)
theorem dX6_layRoots_100 : decode cX6_layRoots 100 = .ok (.bipush 10, 2) := dk_16 10 (dk_at dksX6_layRoots_4 7 rfl rfl)
theorem dX6_layRoots_102 : decode cX6_layRoots 102 = .ok (.iadd, 1) := dk_96 (dk_at dksX6_layRoots_4 9 rfl rfl)
theorem dX6_layRoots_103 : decode cX6_layRoots 103 = .ok (.iaload, 1) := dk_46 (dk_at dksX6_layRoots_4 10 rfl rfl)
theorem dX6_layRoots_104 : decode cX6_layRoots 104 = .ok (.iadd, 1) := dk_96 (dk_at dksX6_layRoots_4 11 rfl rfl)
theorem dX6_layRoots_105 : decode cX6_layRoots 105 = .ok (.goto 4, 3) := dk_167 0 4 (dk_at dksX6_layRoots_4 12 rfl rfl)
theorem dX6_layRoots_108 : decode cX6_layRoots 108 = .ok (.iconst 0, 1) := dk_3 (dk_at dksX6_layRoots_4 15 rfl rfl)
theorem dX6_layRoots_109 : decode cX6_layRoots 109 = .ok (.iastore, 1) := dk_79 (dk_at dksX6_layRoots_4 16 rfl rfl)
theorem dX6_layRoots_110 : decode cX6_layRoots 110 = .ok (.iinc 2 1, 3) := dk_132 2 1 (dk_at dksX6_layRoots_4 17 rfl rfl)
theorem dX6_layRoots_113 : decode cX6_layRoots 113 = .ok (.goto (-111), 3) := dk_167 255 145 (dk_at dksX6_layRoots_4 20 rfl rfl)
theorem dX6_layRoots_116 : decode cX6_layRoots 116 = .ok (.return_, 1) := dk_177 (dk_at dksX6_layRoots_4 23 rfl rfl)
abbrev cX6_layRoot : ByteArray := prog_20_method_109_code
def yX6_layRoot : MethodName := ⟨RX6, "layRoot", "(IIZ)V"⟩
def dkwX6_layRoot_3 : List UInt8 := [21, 4, 181, 1, 244, 42, 21, 4, 181, 1, 247, 132, 4, 1, 167, 255, 191, 177]
abbrev dktX6_layRoot_3 : List UInt8 := dkwX6_layRoot_3 ++ []
def dkwX6_layRoot_2 : List UInt8 := [154, 0, 6, 167, 0, 32, 42, 89, 180, 1, 241, 4, 96, 181, 1, 241, 42, 180, 1, 244, 156, 0, 9, 42]
abbrev dktX6_layRoot_2 : List UInt8 := dkwX6_layRoot_2 ++ dktX6_layRoot_3
def dkwX6_layRoot_1 : List UInt8 := [162, 0, 63, 29, 153, 0, 10, 42, 180, 1, 241, 157, 0, 52, 42, 27, 28, 21, 4, 182, 2, 3]
abbrev dktX6_layRoot_1 : List UInt8 := dkwX6_layRoot_1 ++ dktX6_layRoot_2
def dkwX6_layRoot_0 : List UInt8 := [42, 3, 181, 1, 241, 42, 2, 181, 1, 244, 42, 2, 181, 1, 247, 3, 54, 4, 21, 4, 17, 78, 32]
abbrev dktX6_layRoot_0 : List UInt8 := dkwX6_layRoot_0 ++ dktX6_layRoot_1
theorem dksX6_layRoot_0 : cX6_layRoot.data.toList.drop 0 = dktX6_layRoot_0 := by decide +kernel
theorem dksX6_layRoot_1 : cX6_layRoot.data.toList.drop 23 = dktX6_layRoot_1 := dk_seg dksX6_layRoot_0 23 rfl rfl
theorem dksX6_layRoot_2 : cX6_layRoot.data.toList.drop 45 = dktX6_layRoot_2 := dk_seg dksX6_layRoot_1 22 rfl rfl
theorem dksX6_layRoot_3 : cX6_layRoot.data.toList.drop 69 = dktX6_layRoot_3 := dk_seg dksX6_layRoot_2 24 rfl rfl
theorem dX6_layRoot_0 : decode cX6_layRoot 0 = .ok (.aload_n 0, 1) := dk_42 (dk_at dksX6_layRoot_0 0 rfl rfl)
theorem dX6_layRoot_1 : decode cX6_layRoot 1 = .ok (.iconst 0, 1) := dk_3 (dk_at dksX6_layRoot_0 1 rfl rfl)
theorem dX6_layRoot_2 : decode cX6_layRoot 2 = .ok (.putfield 497, 3) := dk_181 1 241 (dk_at dksX6_layRoot_0 2 rfl rfl)
theorem dX6_layRoot_5 : decode cX6_layRoot 5 = .ok (.aload_n 0, 1) := dk_42 (dk_at dksX6_layRoot_0 5 rfl rfl)
theorem dX6_layRoot_6 : decode cX6_layRoot 6 = .ok (.iconst (-1), 1) := dk_2 (dk_at dksX6_layRoot_0 6 rfl rfl)
theorem dX6_layRoot_7 : decode cX6_layRoot 7 = .ok (.putfield 500, 3) := dk_181 1 244 (dk_at dksX6_layRoot_0 7 rfl rfl)
theorem dX6_layRoot_10 : decode cX6_layRoot 10 = .ok (.aload_n 0, 1) := dk_42 (dk_at dksX6_layRoot_0 10 rfl rfl)
theorem dX6_layRoot_11 : decode cX6_layRoot 11 = .ok (.iconst (-1), 1) := dk_2 (dk_at dksX6_layRoot_0 11 rfl rfl)
theorem dX6_layRoot_12 : decode cX6_layRoot 12 = .ok (.putfield 503, 3) := dk_181 1 247 (dk_at dksX6_layRoot_0 12 rfl rfl)
theorem dX6_layRoot_15 : decode cX6_layRoot 15 = .ok (.iconst 0, 1) := dk_3 (dk_at dksX6_layRoot_0 15 rfl rfl)
theorem dX6_layRoot_16 : decode cX6_layRoot 16 = .ok (.istore 4, 2) := dk_54 4 (dk_at dksX6_layRoot_0 16 rfl rfl)
theorem dX6_layRoot_18 : decode cX6_layRoot 18 = .ok (.iload 4, 2) := dk_21 4 (dk_at dksX6_layRoot_0 18 rfl rfl)
theorem dX6_layRoot_20 : decode cX6_layRoot 20 = .ok (.sipush 20000, 3) := dk_17 78 32 (dk_at dksX6_layRoot_0 20 rfl rfl)
theorem dX6_layRoot_23 : decode cX6_layRoot 23 = .ok (.if_icmp .ge 63, 3) := dk_162 0 63 (dk_at dksX6_layRoot_1 0 rfl rfl)
theorem dX6_layRoot_26 : decode cX6_layRoot 26 = .ok (.iload_n 3, 1) := dk_29 (dk_at dksX6_layRoot_1 3 rfl rfl)
theorem dX6_layRoot_27 : decode cX6_layRoot 27 = .ok (.ifCond .eq 10, 3) := dk_153 0 10 (dk_at dksX6_layRoot_1 4 rfl rfl)
theorem dX6_layRoot_30 : decode cX6_layRoot 30 = .ok (.aload_n 0, 1) := dk_42 (dk_at dksX6_layRoot_1 7 rfl rfl)
theorem dX6_layRoot_31 : decode cX6_layRoot 31 = .ok (.getfield 497, 3) := dk_180 1 241 (dk_at dksX6_layRoot_1 8 rfl rfl)
theorem dX6_layRoot_34 : decode cX6_layRoot 34 = .ok (.ifCond .gt 52, 3) := dk_157 0 52 (dk_at dksX6_layRoot_1 11 rfl rfl)
theorem dX6_layRoot_37 : decode cX6_layRoot 37 = .ok (.aload_n 0, 1) := dk_42 (dk_at dksX6_layRoot_1 14 rfl rfl)
theorem dX6_layRoot_38 : decode cX6_layRoot 38 = .ok (.iload_n 1, 1) := dk_27 (dk_at dksX6_layRoot_1 15 rfl rfl)
theorem dX6_layRoot_39 : decode cX6_layRoot 39 = .ok (.iload_n 2, 1) := dk_28 (dk_at dksX6_layRoot_1 16 rfl rfl)
theorem dX6_layRoot_40 : decode cX6_layRoot 40 = .ok (.iload 4, 2) := dk_21 4 (dk_at dksX6_layRoot_1 17 rfl rfl)
theorem dX6_layRoot_42 : decode cX6_layRoot 42 = .ok (.invokevirtual 515, 3) := dk_182 2 3 (dk_at dksX6_layRoot_1 19 rfl rfl)
theorem dX6_layRoot_45 : decode cX6_layRoot 45 = .ok (.ifCond .ne 6, 3) := dk_154 0 6 (dk_at dksX6_layRoot_2 0 rfl rfl)
theorem dX6_layRoot_48 : decode cX6_layRoot 48 = .ok (.goto 32, 3) := dk_167 0 32 (dk_at dksX6_layRoot_2 3 rfl rfl)
theorem dX6_layRoot_51 : decode cX6_layRoot 51 = .ok (.aload_n 0, 1) := dk_42 (dk_at dksX6_layRoot_2 6 rfl rfl)
theorem dX6_layRoot_52 : decode cX6_layRoot 52 = .ok (.dup, 1) := dk_89 (dk_at dksX6_layRoot_2 7 rfl rfl)
theorem dX6_layRoot_53 : decode cX6_layRoot 53 = .ok (.getfield 497, 3) := dk_180 1 241 (dk_at dksX6_layRoot_2 8 rfl rfl)
theorem dX6_layRoot_56 : decode cX6_layRoot 56 = .ok (.iconst 1, 1) := dk_4 (dk_at dksX6_layRoot_2 11 rfl rfl)
theorem dX6_layRoot_57 : decode cX6_layRoot 57 = .ok (.iadd, 1) := dk_96 (dk_at dksX6_layRoot_2 12 rfl rfl)
theorem dX6_layRoot_58 : decode cX6_layRoot 58 = .ok (.putfield 497, 3) := dk_181 1 241 (dk_at dksX6_layRoot_2 13 rfl rfl)
theorem dX6_layRoot_61 : decode cX6_layRoot 61 = .ok (.aload_n 0, 1) := dk_42 (dk_at dksX6_layRoot_2 16 rfl rfl)
theorem dX6_layRoot_62 : decode cX6_layRoot 62 = .ok (.getfield 500, 3) := dk_180 1 244 (dk_at dksX6_layRoot_2 17 rfl rfl)
theorem dX6_layRoot_65 : decode cX6_layRoot 65 = .ok (.ifCond .ge 9, 3) := dk_156 0 9 (dk_at dksX6_layRoot_2 20 rfl rfl)
theorem dX6_layRoot_68 : decode cX6_layRoot 68 = .ok (.aload_n 0, 1) := dk_42 (dk_at dksX6_layRoot_2 23 rfl rfl)
theorem dX6_layRoot_69 : decode cX6_layRoot 69 = .ok (.iload 4, 2) := dk_21 4 (dk_at dksX6_layRoot_3 0 rfl rfl)
theorem dX6_layRoot_71 : decode cX6_layRoot 71 = .ok (.putfield 500, 3) := dk_181 1 244 (dk_at dksX6_layRoot_3 2 rfl rfl)
theorem dX6_layRoot_74 : decode cX6_layRoot 74 = .ok (.aload_n 0, 1) := dk_42 (dk_at dksX6_layRoot_3 5 rfl rfl)
theorem dX6_layRoot_75 : decode cX6_layRoot 75 = .ok (.iload 4, 2) := dk_21 4 (dk_at dksX6_layRoot_3 6 rfl rfl)
theorem dX6_layRoot_77 : decode cX6_layRoot 77 = .ok (.putfield 503, 3) := dk_181 1 247 (dk_at dksX6_layRoot_3 8 rfl rfl)
theorem dX6_layRoot_80 : decode cX6_layRoot 80 = .ok (.iinc 4 1, 3) := dk_132 4 1 (dk_at dksX6_layRoot_3 11 rfl rfl)
theorem dX6_layRoot_83 : decode cX6_layRoot 83 = .ok (.goto (-65), 3) := dk_167 255 191 (dk_at dksX6_layRoot_3 14 rfl rfl)
theorem dX6_layRoot_86 : decode cX6_layRoot 86 = .ok (.return_, 1) := dk_177 (dk_at dksX6_layRoot_3 17 rfl rfl)
abbrev cX6_allCan : ByteArray := prog_20_method_108_code
def yX6_allCan : MethodName := ⟨RX6, "allCan", "(III)Z"⟩
def dkwX6_allCan_3 : List UInt8 := [21, 5, 96, 51, 154, 0, 5, 3, 172, 132, 4, 1, 167, 255, 178, 4, 172]
abbrev dktX6_allCan_3 : List UInt8 := dkwX6_allCan_3 ++ []
def dkwX6_allCan_2 : List UInt8 := [21, 5, 155, 0, 28, 21, 5, 17, 78, 31, 163, 0, 20, 42, 180, 0, 88, 17, 78, 32, 21, 4, 104]
abbrev dktX6_allCan_2 : List UInt8 := dkwX6_allCan_2 ++ dktX6_allCan_3
def dkwX6_allCan_1 : List UInt8 := [180, 0, 92, 21, 4, 46, 28, 159, 0, 6, 167, 0, 46, 29, 42, 180, 0, 95, 21, 4, 46, 96, 54, 5]
abbrev dktX6_allCan_1 : List UInt8 := dkwX6_allCan_1 ++ dktX6_allCan_2
def dkwX6_allCan_0 : List UInt8 := [3, 54, 4, 21, 4, 42, 180, 0, 229, 162, 0, 75, 27, 21, 4, 184, 1, 41, 153, 0, 60, 42]
abbrev dktX6_allCan_0 : List UInt8 := dkwX6_allCan_0 ++ dktX6_allCan_1
theorem dksX6_allCan_0 : cX6_allCan.data.toList.drop 0 = dktX6_allCan_0 := by decide +kernel
theorem dksX6_allCan_1 : cX6_allCan.data.toList.drop 22 = dktX6_allCan_1 := dk_seg dksX6_allCan_0 22 rfl rfl
theorem dksX6_allCan_2 : cX6_allCan.data.toList.drop 46 = dktX6_allCan_2 := dk_seg dksX6_allCan_1 24 rfl rfl
theorem dksX6_allCan_3 : cX6_allCan.data.toList.drop 69 = dktX6_allCan_3 := dk_seg dksX6_allCan_2 23 rfl rfl
theorem dX6_allCan_0 : decode cX6_allCan 0 = .ok (.iconst 0, 1) := dk_3 (dk_at dksX6_allCan_0 0 rfl rfl)
theorem dX6_allCan_1 : decode cX6_allCan 1 = .ok (.istore 4, 2) := dk_54 4 (dk_at dksX6_allCan_0 1 rfl rfl)
theorem dX6_allCan_3 : decode cX6_allCan 3 = .ok (.iload 4, 2) := dk_21 4 (dk_at dksX6_allCan_0 3 rfl rfl)
theorem dX6_allCan_5 : decode cX6_allCan 5 = .ok (.aload_n 0, 1) := dk_42 (dk_at dksX6_allCan_0 5 rfl rfl)
theorem dX6_allCan_6 : decode cX6_allCan 6 = .ok (.getfield 229, 3) := dk_180 0 229 (dk_at dksX6_allCan_0 6 rfl rfl)
theorem dX6_allCan_9 : decode cX6_allCan 9 = .ok (.if_icmp .ge 75, 3) := dk_162 0 75 (dk_at dksX6_allCan_0 9 rfl rfl)
theorem dX6_allCan_12 : decode cX6_allCan 12 = .ok (.iload_n 1, 1) := dk_27 (dk_at dksX6_allCan_0 12 rfl rfl)
theorem dX6_allCan_13 : decode cX6_allCan 13 = .ok (.iload 4, 2) := dk_21 4 (dk_at dksX6_allCan_0 13 rfl rfl)
theorem dX6_allCan_15 : decode cX6_allCan 15 = .ok (.invokestatic 297, 3) := dk_184 1 41 (dk_at dksX6_allCan_0 15 rfl rfl)
theorem dX6_allCan_18 : decode cX6_allCan 18 = .ok (.ifCond .eq 60, 3) := dk_153 0 60 (dk_at dksX6_allCan_0 18 rfl rfl)
theorem dX6_allCan_21 : decode cX6_allCan 21 = .ok (.aload_n 0, 1) := dk_42 (dk_at dksX6_allCan_0 21 rfl rfl)
theorem dX6_allCan_22 : decode cX6_allCan 22 = .ok (.getfield 92, 3) := dk_180 0 92 (dk_at dksX6_allCan_1 0 rfl rfl)
theorem dX6_allCan_25 : decode cX6_allCan 25 = .ok (.iload 4, 2) := dk_21 4 (dk_at dksX6_allCan_1 3 rfl rfl)
theorem dX6_allCan_27 : decode cX6_allCan 27 = .ok (.iaload, 1) := dk_46 (dk_at dksX6_allCan_1 5 rfl rfl)
theorem dX6_allCan_28 : decode cX6_allCan 28 = .ok (.iload_n 2, 1) := dk_28 (dk_at dksX6_allCan_1 6 rfl rfl)
theorem dX6_allCan_29 : decode cX6_allCan 29 = .ok (.if_icmp .eq 6, 3) := dk_159 0 6 (dk_at dksX6_allCan_1 7 rfl rfl)
theorem dX6_allCan_32 : decode cX6_allCan 32 = .ok (.goto 46, 3) := dk_167 0 46 (dk_at dksX6_allCan_1 10 rfl rfl)
theorem dX6_allCan_35 : decode cX6_allCan 35 = .ok (.iload_n 3, 1) := dk_29 (dk_at dksX6_allCan_1 13 rfl rfl)
theorem dX6_allCan_36 : decode cX6_allCan 36 = .ok (.aload_n 0, 1) := dk_42 (dk_at dksX6_allCan_1 14 rfl rfl)
theorem dX6_allCan_37 : decode cX6_allCan 37 = .ok (.getfield 95, 3) := dk_180 0 95 (dk_at dksX6_allCan_1 15 rfl rfl)
theorem dX6_allCan_40 : decode cX6_allCan 40 = .ok (.iload 4, 2) := dk_21 4 (dk_at dksX6_allCan_1 18 rfl rfl)
theorem dX6_allCan_42 : decode cX6_allCan 42 = .ok (.iaload, 1) := dk_46 (dk_at dksX6_allCan_1 20 rfl rfl)
theorem dX6_allCan_43 : decode cX6_allCan 43 = .ok (.iadd, 1) := dk_96 (dk_at dksX6_allCan_1 21 rfl rfl)
theorem dX6_allCan_44 : decode cX6_allCan 44 = .ok (.istore 5, 2) := dk_54 5 (dk_at dksX6_allCan_1 22 rfl rfl)
theorem dX6_allCan_46 : decode cX6_allCan 46 = .ok (.iload 5, 2) := dk_21 5 (dk_at dksX6_allCan_2 0 rfl rfl)
theorem dX6_allCan_48 : decode cX6_allCan 48 = .ok (.ifCond .lt 28, 3) := dk_155 0 28 (dk_at dksX6_allCan_2 2 rfl rfl)
theorem dX6_allCan_51 : decode cX6_allCan 51 = .ok (.iload 5, 2) := dk_21 5 (dk_at dksX6_allCan_2 5 rfl rfl)
theorem dX6_allCan_53 : decode cX6_allCan 53 = .ok (.sipush 19999, 3) := dk_17 78 31 (dk_at dksX6_allCan_2 7 rfl rfl)
theorem dX6_allCan_56 : decode cX6_allCan 56 = .ok (.if_icmp .gt 20, 3) := dk_163 0 20 (dk_at dksX6_allCan_2 10 rfl rfl)
theorem dX6_allCan_59 : decode cX6_allCan 59 = .ok (.aload_n 0, 1) := dk_42 (dk_at dksX6_allCan_2 13 rfl rfl)
theorem dX6_allCan_60 : decode cX6_allCan 60 = .ok (.getfield 88, 3) := dk_180 0 88 (dk_at dksX6_allCan_2 14 rfl rfl)
theorem dX6_allCan_63 : decode cX6_allCan 63 = .ok (.sipush 20000, 3) := dk_17 78 32 (dk_at dksX6_allCan_2 17 rfl rfl)
theorem dX6_allCan_66 : decode cX6_allCan 66 = .ok (.iload 4, 2) := dk_21 4 (dk_at dksX6_allCan_2 20 rfl rfl)
theorem dX6_allCan_68 : decode cX6_allCan 68 = .ok (.imul, 1) := dk_104 (dk_at dksX6_allCan_2 22 rfl rfl)
theorem dX6_allCan_69 : decode cX6_allCan 69 = .ok (.iload 5, 2) := dk_21 5 (dk_at dksX6_allCan_3 0 rfl rfl)
theorem dX6_allCan_71 : decode cX6_allCan 71 = .ok (.iadd, 1) := dk_96 (dk_at dksX6_allCan_3 2 rfl rfl)
theorem dX6_allCan_72 : decode cX6_allCan 72 = .ok (.baload, 1) := dk_51 (dk_at dksX6_allCan_3 3 rfl rfl)
theorem dX6_allCan_73 : decode cX6_allCan 73 = .ok (.ifCond .ne 5, 3) := dk_154 0 5 (dk_at dksX6_allCan_3 4 rfl rfl)
theorem dX6_allCan_76 : decode cX6_allCan 76 = .ok (.iconst 0, 1) := dk_3 (dk_at dksX6_allCan_3 7 rfl rfl)
theorem dX6_allCan_77 : decode cX6_allCan 77 = .ok (.ireturn, 1) := dk_172 (dk_at dksX6_allCan_3 8 rfl rfl)
theorem dX6_allCan_78 : decode cX6_allCan 78 = .ok (.iinc 4 1, 3) := dk_132 4 1 (dk_at dksX6_allCan_3 9 rfl rfl)
theorem dX6_allCan_81 : decode cX6_allCan 81 = .ok (.goto (-78), 3) := dk_167 255 178 (dk_at dksX6_allCan_3 12 rfl rfl)
theorem dX6_allCan_84 : decode cX6_allCan 84 = .ok (.iconst 1, 1) := dk_4 (dk_at dksX6_allCan_3 15 rfl rfl)
theorem dX6_allCan_85 : decode cX6_allCan 85 = .ok (.ireturn, 1) := dk_172 (dk_at dksX6_allCan_3 16 rfl rfl)
abbrev cX6_gap : ByteArray := prog_20_method_115_code
def yX6_gap : MethodName := ⟨RX6, "gap", "()I"⟩
def dkwX6_gap_2 : List UInt8 := [132, 2, 1, 167, 255, 227, 132, 1, 1, 167, 255, 211, 3, 172]
abbrev dktX6_gap_2 : List UInt8 := dkwX6_gap_2 ++ []
def dkwX6_gap_1 : List UInt8 := [182, 2, 9, 163, 0, 27, 28, 184, 2, 19, 27, 160, 0, 13, 42, 28, 182, 2, 22, 153, 0, 5, 28, 172]
abbrev dktX6_gap_1 : List UInt8 := dkwX6_gap_1 ++ dktX6_gap_2
def dkwX6_gap_0 : List UInt8 := [42, 3, 181, 0, 119, 42, 182, 2, 6, 4, 60, 27, 42, 180, 0, 229, 163, 0, 43, 4, 61, 28, 42]
abbrev dktX6_gap_0 : List UInt8 := dkwX6_gap_0 ++ dktX6_gap_1
theorem dksX6_gap_0 : cX6_gap.data.toList.drop 0 = dktX6_gap_0 := by decide +kernel
theorem dksX6_gap_1 : cX6_gap.data.toList.drop 23 = dktX6_gap_1 := dk_seg dksX6_gap_0 23 rfl rfl
theorem dksX6_gap_2 : cX6_gap.data.toList.drop 47 = dktX6_gap_2 := dk_seg dksX6_gap_1 24 rfl rfl
theorem dX6_gap_0 : decode cX6_gap 0 = .ok (.aload_n 0, 1) := dk_42 (dk_at dksX6_gap_0 0 rfl rfl)
theorem dX6_gap_1 : decode cX6_gap 1 = .ok (.iconst 0, 1) := dk_3 (dk_at dksX6_gap_0 1 rfl rfl)
theorem dX6_gap_2 : decode cX6_gap 2 = .ok (.putfield 119, 3) := dk_181 0 119 (dk_at dksX6_gap_0 2 rfl rfl)
theorem dX6_gap_5 : decode cX6_gap 5 = .ok (.aload_n 0, 1) := dk_42 (dk_at dksX6_gap_0 5 rfl rfl)
theorem dX6_gap_6 : decode cX6_gap 6 = .ok (.invokevirtual 518, 3) := dk_182 2 6 (dk_at dksX6_gap_0 6 rfl rfl)
theorem dX6_gap_9 : decode cX6_gap 9 = .ok (.iconst 1, 1) := dk_4 (dk_at dksX6_gap_0 9 rfl rfl)
theorem dX6_gap_10 : decode cX6_gap 10 = .ok (.istore_n 1, 1) := dk_60 (dk_at dksX6_gap_0 10 rfl rfl)
theorem dX6_gap_11 : decode cX6_gap 11 = .ok (.iload_n 1, 1) := dk_27 (dk_at dksX6_gap_0 11 rfl rfl)
theorem dX6_gap_12 : decode cX6_gap 12 = .ok (.aload_n 0, 1) := dk_42 (dk_at dksX6_gap_0 12 rfl rfl)
theorem dX6_gap_13 : decode cX6_gap 13 = .ok (.getfield 229, 3) := dk_180 0 229 (dk_at dksX6_gap_0 13 rfl rfl)
theorem dX6_gap_16 : decode cX6_gap 16 = .ok (.if_icmp .gt 43, 3) := dk_163 0 43 (dk_at dksX6_gap_0 16 rfl rfl)
theorem dX6_gap_19 : decode cX6_gap 19 = .ok (.iconst 1, 1) := dk_4 (dk_at dksX6_gap_0 19 rfl rfl)
theorem dX6_gap_20 : decode cX6_gap 20 = .ok (.istore_n 2, 1) := dk_61 (dk_at dksX6_gap_0 20 rfl rfl)
theorem dX6_gap_21 : decode cX6_gap 21 = .ok (.iload_n 2, 1) := dk_28 (dk_at dksX6_gap_0 21 rfl rfl)
theorem dX6_gap_22 : decode cX6_gap 22 = .ok (.aload_n 0, 1) := dk_42 (dk_at dksX6_gap_0 22 rfl rfl)
theorem dX6_gap_23 : decode cX6_gap 23 = .ok (.invokevirtual 521, 3) := dk_182 2 9 (dk_at dksX6_gap_1 0 rfl rfl)
theorem dX6_gap_26 : decode cX6_gap 26 = .ok (.if_icmp .gt 27, 3) := dk_163 0 27 (dk_at dksX6_gap_1 3 rfl rfl)
theorem dX6_gap_29 : decode cX6_gap 29 = .ok (.iload_n 2, 1) := dk_28 (dk_at dksX6_gap_1 6 rfl rfl)
theorem dX6_gap_30 : decode cX6_gap 30 = .ok (.invokestatic 531, 3) := dk_184 2 19 (dk_at dksX6_gap_1 7 rfl rfl)
theorem dX6_gap_33 : decode cX6_gap 33 = .ok (.iload_n 1, 1) := dk_27 (dk_at dksX6_gap_1 10 rfl rfl)
theorem dX6_gap_34 : decode cX6_gap 34 = .ok (.if_icmp .ne 13, 3) := dk_160 0 13 (dk_at dksX6_gap_1 11 rfl rfl)
theorem dX6_gap_37 : decode cX6_gap 37 = .ok (.aload_n 0, 1) := dk_42 (dk_at dksX6_gap_1 14 rfl rfl)
theorem dX6_gap_38 : decode cX6_gap 38 = .ok (.iload_n 2, 1) := dk_28 (dk_at dksX6_gap_1 15 rfl rfl)
theorem dX6_gap_39 : decode cX6_gap 39 = .ok (.invokevirtual 534, 3) := dk_182 2 22 (dk_at dksX6_gap_1 16 rfl rfl)
theorem dX6_gap_42 : decode cX6_gap 42 = .ok (.ifCond .eq 5, 3) := dk_153 0 5 (dk_at dksX6_gap_1 19 rfl rfl)
theorem dX6_gap_45 : decode cX6_gap 45 = .ok (.iload_n 2, 1) := dk_28 (dk_at dksX6_gap_1 22 rfl rfl)
theorem dX6_gap_46 : decode cX6_gap 46 = .ok (.ireturn, 1) := dk_172 (dk_at dksX6_gap_1 23 rfl rfl)
theorem dX6_gap_47 : decode cX6_gap 47 = .ok (.iinc 2 1, 3) := dk_132 2 1 (dk_at dksX6_gap_2 0 rfl rfl)
theorem dX6_gap_50 : decode cX6_gap 50 = .ok (.goto (-29), 3) := dk_167 255 227 (dk_at dksX6_gap_2 3 rfl rfl)
theorem dX6_gap_53 : decode cX6_gap 53 = .ok (.iinc 1 1, 3) := dk_132 1 1 (dk_at dksX6_gap_2 6 rfl rfl)
theorem dX6_gap_56 : decode cX6_gap 56 = .ok (.goto (-45), 3) := dk_167 255 211 (dk_at dksX6_gap_2 9 rfl rfl)
theorem dX6_gap_59 : decode cX6_gap 59 = .ok (.iconst 0, 1) := dk_3 (dk_at dksX6_gap_2 12 rfl rfl)
theorem dX6_gap_60 : decode cX6_gap 60 = .ok (.ireturn, 1) := dk_172 (dk_at dksX6_gap_2 13 rfl rfl)
abbrev cX6_manyOf : ByteArray := prog_20_method_114_code
def yX6_manyOf : MethodName := ⟨RX6, "manyOf", "(I)I"⟩
def dkwX6_manyOf_1 : List UInt8 := [27, 172]
abbrev dktX6_manyOf_1 : List UInt8 := dkwX6_manyOf_1 ++ []
def dkwX6_manyOf_0 : List UInt8 := [3, 60, 3, 61, 28, 16, 12, 162, 0, 17, 27, 26, 28, 122, 4, 126, 96, 60, 132, 2, 1, 167, 255, 239]
abbrev dktX6_manyOf_0 : List UInt8 := dkwX6_manyOf_0 ++ dktX6_manyOf_1
theorem dksX6_manyOf_0 : cX6_manyOf.data.toList.drop 0 = dktX6_manyOf_0 := by decide +kernel
theorem dksX6_manyOf_1 : cX6_manyOf.data.toList.drop 24 = dktX6_manyOf_1 := dk_seg dksX6_manyOf_0 24 rfl rfl
theorem dX6_manyOf_0 : decode cX6_manyOf 0 = .ok (.iconst 0, 1) := dk_3 (dk_at dksX6_manyOf_0 0 rfl rfl)
theorem dX6_manyOf_1 : decode cX6_manyOf 1 = .ok (.istore_n 1, 1) := dk_60 (dk_at dksX6_manyOf_0 1 rfl rfl)
theorem dX6_manyOf_2 : decode cX6_manyOf 2 = .ok (.iconst 0, 1) := dk_3 (dk_at dksX6_manyOf_0 2 rfl rfl)
theorem dX6_manyOf_3 : decode cX6_manyOf 3 = .ok (.istore_n 2, 1) := dk_61 (dk_at dksX6_manyOf_0 3 rfl rfl)
theorem dX6_manyOf_4 : decode cX6_manyOf 4 = .ok (.iload_n 2, 1) := dk_28 (dk_at dksX6_manyOf_0 4 rfl rfl)
theorem dX6_manyOf_5 : decode cX6_manyOf 5 = .ok (.bipush 12, 2) := dk_16 12 (dk_at dksX6_manyOf_0 5 rfl rfl)
theorem dX6_manyOf_7 : decode cX6_manyOf 7 = .ok (.if_icmp .ge 17, 3) := dk_162 0 17 (dk_at dksX6_manyOf_0 7 rfl rfl)
theorem dX6_manyOf_10 : decode cX6_manyOf 10 = .ok (.iload_n 1, 1) := dk_27 (dk_at dksX6_manyOf_0 10 rfl rfl)
theorem dX6_manyOf_11 : decode cX6_manyOf 11 = .ok (.iload_n 0, 1) := dk_26 (dk_at dksX6_manyOf_0 11 rfl rfl)
theorem dX6_manyOf_12 : decode cX6_manyOf 12 = .ok (.iload_n 2, 1) := dk_28 (dk_at dksX6_manyOf_0 12 rfl rfl)
theorem dX6_manyOf_13 : decode cX6_manyOf 13 = .ok (.ishr, 1) := dk_122 (dk_at dksX6_manyOf_0 13 rfl rfl)
theorem dX6_manyOf_14 : decode cX6_manyOf 14 = .ok (.iconst 1, 1) := dk_4 (dk_at dksX6_manyOf_0 14 rfl rfl)
theorem dX6_manyOf_15 : decode cX6_manyOf 15 = .ok (.iand, 1) := dk_126 (dk_at dksX6_manyOf_0 15 rfl rfl)
theorem dX6_manyOf_16 : decode cX6_manyOf 16 = .ok (.iadd, 1) := dk_96 (dk_at dksX6_manyOf_0 16 rfl rfl)
theorem dX6_manyOf_17 : decode cX6_manyOf 17 = .ok (.istore_n 1, 1) := dk_60 (dk_at dksX6_manyOf_0 17 rfl rfl)
theorem dX6_manyOf_18 : decode cX6_manyOf 18 = .ok (.iinc 2 1, 3) := dk_132 2 1 (dk_at dksX6_manyOf_0 18 rfl rfl)
theorem dX6_manyOf_21 : decode cX6_manyOf 21 = .ok (.goto (-17), 3) := dk_167 255 239 (dk_at dksX6_manyOf_0 21 rfl rfl)
theorem dX6_manyOf_24 : decode cX6_manyOf 24 = .ok (.iload_n 1, 1) := dk_27 (dk_at dksX6_manyOf_1 0 rfl rfl)
theorem dX6_manyOf_25 : decode cX6_manyOf 25 = .ok (.ireturn, 1) := dk_172 (dk_at dksX6_manyOf_1 1 rfl rfl)
abbrev cX6_isGap : ByteArray := prog_20_method_113_code
def yX6_isGap : MethodName := ⟨RX6, "isGap", "(I)Z"⟩
def dkwX6_isGap_3 : List UInt8 := [3, 172]
abbrev dktX6_isGap_3 : List UInt8 := dkwX6_isGap_3 ++ []
def dkwX6_isGap_2 : List UInt8 := [132, 3, 1, 167, 255, 216, 42, 27, 28, 4, 182, 2, 15, 42, 180, 1, 241, 154, 0, 7, 4, 167, 0, 4]
abbrev dktX6_isGap_2 : List UInt8 := dkwX6_isGap_2 ++ dktX6_isGap_3
def dkwX6_isGap_1 : List UInt8 := [153, 0, 24, 42, 180, 0, 92, 29, 46, 29, 159, 0, 6, 167, 0, 11, 28, 155, 0, 5, 3, 172, 29, 61]
abbrev dktX6_isGap_1 : List UInt8 := dkwX6_isGap_1 ++ dktX6_isGap_2
def dkwX6_isGap_0 : List UInt8 := [42, 27, 182, 2, 12, 2, 61, 3, 62, 29, 42, 180, 0, 229, 162, 0, 38, 27, 29, 184, 1, 41]
abbrev dktX6_isGap_0 : List UInt8 := dkwX6_isGap_0 ++ dktX6_isGap_1
theorem dksX6_isGap_0 : cX6_isGap.data.toList.drop 0 = dktX6_isGap_0 := by decide +kernel
theorem dksX6_isGap_1 : cX6_isGap.data.toList.drop 22 = dktX6_isGap_1 := dk_seg dksX6_isGap_0 22 rfl rfl
theorem dksX6_isGap_2 : cX6_isGap.data.toList.drop 46 = dktX6_isGap_2 := dk_seg dksX6_isGap_1 24 rfl rfl
theorem dksX6_isGap_3 : cX6_isGap.data.toList.drop 70 = dktX6_isGap_3 := dk_seg dksX6_isGap_2 24 rfl rfl
theorem dX6_isGap_0 : decode cX6_isGap 0 = .ok (.aload_n 0, 1) := dk_42 (dk_at dksX6_isGap_0 0 rfl rfl)
theorem dX6_isGap_1 : decode cX6_isGap 1 = .ok (.iload_n 1, 1) := dk_27 (dk_at dksX6_isGap_0 1 rfl rfl)
theorem dX6_isGap_2 : decode cX6_isGap 2 = .ok (.invokevirtual 524, 3) := dk_182 2 12 (dk_at dksX6_isGap_0 2 rfl rfl)
theorem dX6_isGap_5 : decode cX6_isGap 5 = .ok (.iconst (-1), 1) := dk_2 (dk_at dksX6_isGap_0 5 rfl rfl)
theorem dX6_isGap_6 : decode cX6_isGap 6 = .ok (.istore_n 2, 1) := dk_61 (dk_at dksX6_isGap_0 6 rfl rfl)
theorem dX6_isGap_7 : decode cX6_isGap 7 = .ok (.iconst 0, 1) := dk_3 (dk_at dksX6_isGap_0 7 rfl rfl)
theorem dX6_isGap_8 : decode cX6_isGap 8 = .ok (.istore_n 3, 1) := dk_62 (dk_at dksX6_isGap_0 8 rfl rfl)
theorem dX6_isGap_9 : decode cX6_isGap 9 = .ok (.iload_n 3, 1) := dk_29 (dk_at dksX6_isGap_0 9 rfl rfl)
theorem dX6_isGap_10 : decode cX6_isGap 10 = .ok (.aload_n 0, 1) := dk_42 (dk_at dksX6_isGap_0 10 rfl rfl)
theorem dX6_isGap_11 : decode cX6_isGap 11 = .ok (.getfield 229, 3) := dk_180 0 229 (dk_at dksX6_isGap_0 11 rfl rfl)
theorem dX6_isGap_14 : decode cX6_isGap 14 = .ok (.if_icmp .ge 38, 3) := dk_162 0 38 (dk_at dksX6_isGap_0 14 rfl rfl)
theorem dX6_isGap_17 : decode cX6_isGap 17 = .ok (.iload_n 1, 1) := dk_27 (dk_at dksX6_isGap_0 17 rfl rfl)
theorem dX6_isGap_18 : decode cX6_isGap 18 = .ok (.iload_n 3, 1) := dk_29 (dk_at dksX6_isGap_0 18 rfl rfl)
theorem dX6_isGap_19 : decode cX6_isGap 19 = .ok (.invokestatic 297, 3) := dk_184 1 41 (dk_at dksX6_isGap_0 19 rfl rfl)
theorem dX6_isGap_22 : decode cX6_isGap 22 = .ok (.ifCond .eq 24, 3) := dk_153 0 24 (dk_at dksX6_isGap_1 0 rfl rfl)
theorem dX6_isGap_25 : decode cX6_isGap 25 = .ok (.aload_n 0, 1) := dk_42 (dk_at dksX6_isGap_1 3 rfl rfl)
theorem dX6_isGap_26 : decode cX6_isGap 26 = .ok (.getfield 92, 3) := dk_180 0 92 (dk_at dksX6_isGap_1 4 rfl rfl)
theorem dX6_isGap_29 : decode cX6_isGap 29 = .ok (.iload_n 3, 1) := dk_29 (dk_at dksX6_isGap_1 7 rfl rfl)
theorem dX6_isGap_30 : decode cX6_isGap 30 = .ok (.iaload, 1) := dk_46 (dk_at dksX6_isGap_1 8 rfl rfl)
theorem dX6_isGap_31 : decode cX6_isGap 31 = .ok (.iload_n 3, 1) := dk_29 (dk_at dksX6_isGap_1 9 rfl rfl)
theorem dX6_isGap_32 : decode cX6_isGap 32 = .ok (.if_icmp .eq 6, 3) := dk_159 0 6 (dk_at dksX6_isGap_1 10 rfl rfl)
theorem dX6_isGap_35 : decode cX6_isGap 35 = .ok (.goto 11, 3) := dk_167 0 11 (dk_at dksX6_isGap_1 13 rfl rfl)
theorem dX6_isGap_38 : decode cX6_isGap 38 = .ok (.iload_n 2, 1) := dk_28 (dk_at dksX6_isGap_1 16 rfl rfl)
theorem dX6_isGap_39 : decode cX6_isGap 39 = .ok (.ifCond .lt 5, 3) := dk_155 0 5 (dk_at dksX6_isGap_1 17 rfl rfl)
theorem dX6_isGap_42 : decode cX6_isGap 42 = .ok (.iconst 0, 1) := dk_3 (dk_at dksX6_isGap_1 20 rfl rfl)
theorem dX6_isGap_43 : decode cX6_isGap 43 = .ok (.ireturn, 1) := dk_172 (dk_at dksX6_isGap_1 21 rfl rfl)
theorem dX6_isGap_44 : decode cX6_isGap 44 = .ok (.iload_n 3, 1) := dk_29 (dk_at dksX6_isGap_1 22 rfl rfl)
theorem dX6_isGap_45 : decode cX6_isGap 45 = .ok (.istore_n 2, 1) := dk_61 (dk_at dksX6_isGap_1 23 rfl rfl)
theorem dX6_isGap_46 : decode cX6_isGap 46 = .ok (.iinc 3 1, 3) := dk_132 3 1 (dk_at dksX6_isGap_2 0 rfl rfl)
theorem dX6_isGap_49 : decode cX6_isGap 49 = .ok (.goto (-40), 3) := dk_167 255 216 (dk_at dksX6_isGap_2 3 rfl rfl)
theorem dX6_isGap_52 : decode cX6_isGap 52 = .ok (.aload_n 0, 1) := dk_42 (dk_at dksX6_isGap_2 6 rfl rfl)
theorem dX6_isGap_53 : decode cX6_isGap 53 = .ok (.iload_n 1, 1) := dk_27 (dk_at dksX6_isGap_2 7 rfl rfl)
theorem dX6_isGap_54 : decode cX6_isGap 54 = .ok (.iload_n 2, 1) := dk_28 (dk_at dksX6_isGap_2 8 rfl rfl)
theorem dX6_isGap_55 : decode cX6_isGap 55 = .ok (.iconst 1, 1) := dk_4 (dk_at dksX6_isGap_2 9 rfl rfl)
theorem dX6_isGap_56 : decode cX6_isGap 56 = .ok (.invokevirtual 527, 3) := dk_182 2 15 (dk_at dksX6_isGap_2 10 rfl rfl)
theorem dX6_isGap_59 : decode cX6_isGap 59 = .ok (.aload_n 0, 1) := dk_42 (dk_at dksX6_isGap_2 13 rfl rfl)
theorem dX6_isGap_60 : decode cX6_isGap 60 = .ok (.getfield 497, 3) := dk_180 1 241 (dk_at dksX6_isGap_2 14 rfl rfl)
theorem dX6_isGap_63 : decode cX6_isGap 63 = .ok (.ifCond .ne 7, 3) := dk_154 0 7 (dk_at dksX6_isGap_2 17 rfl rfl)
theorem dX6_isGap_66 : decode cX6_isGap 66 = .ok (.iconst 1, 1) := dk_4 (dk_at dksX6_isGap_2 20 rfl rfl)
theorem dX6_isGap_67 : decode cX6_isGap 67 = .ok (.goto 4, 3) := dk_167 0 4 (dk_at dksX6_isGap_2 21 rfl rfl)
theorem dX6_isGap_70 : decode cX6_isGap 70 = .ok (.iconst 0, 1) := dk_3 (dk_at dksX6_isGap_3 0 rfl rfl)
theorem dX6_isGap_71 : decode cX6_isGap 71 = .ok (.ireturn, 1) := dk_172 (dk_at dksX6_isGap_3 1 rfl rfl)
abbrev cX6_told : ByteArray := prog_20_method_116_code
def yX6_told : MethodName := ⟨RX6, "told", "(II)I"⟩
def dkwX6_told_2 : List UInt8 := [180, 0, 101, 42, 180, 0, 246, 28, 79, 42, 89, 180, 0, 246, 4, 96, 181, 0, 246, 42, 180, 0, 246, 172]
abbrev dktX6_told_2 : List UInt8 := dkwX6_told_2 ++ []
def dkwX6_told_1 : List UInt8 := [17, 78, 31, 184, 0, 166, 154, 0, 5, 2, 172, 42, 180, 0, 98, 42, 180, 0, 246, 27, 79, 42]
abbrev dktX6_told_1 : List UInt8 := dkwX6_told_1 ++ dktX6_told_2
def dkwX6_told_0 : List UInt8 := [42, 3, 181, 0, 119, 42, 180, 0, 246, 16, 20, 159, 0, 22, 42, 27, 182, 1, 250, 153, 0, 14, 28, 3]
abbrev dktX6_told_0 : List UInt8 := dkwX6_told_0 ++ dktX6_told_1
theorem dksX6_told_0 : cX6_told.data.toList.drop 0 = dktX6_told_0 := by decide +kernel
theorem dksX6_told_1 : cX6_told.data.toList.drop 24 = dktX6_told_1 := dk_seg dksX6_told_0 24 rfl rfl
theorem dksX6_told_2 : cX6_told.data.toList.drop 46 = dktX6_told_2 := dk_seg dksX6_told_1 22 rfl rfl
theorem dX6_told_0 : decode cX6_told 0 = .ok (.aload_n 0, 1) := dk_42 (dk_at dksX6_told_0 0 rfl rfl)
theorem dX6_told_1 : decode cX6_told 1 = .ok (.iconst 0, 1) := dk_3 (dk_at dksX6_told_0 1 rfl rfl)
theorem dX6_told_2 : decode cX6_told 2 = .ok (.putfield 119, 3) := dk_181 0 119 (dk_at dksX6_told_0 2 rfl rfl)
theorem dX6_told_5 : decode cX6_told 5 = .ok (.aload_n 0, 1) := dk_42 (dk_at dksX6_told_0 5 rfl rfl)
theorem dX6_told_6 : decode cX6_told 6 = .ok (.getfield 246, 3) := dk_180 0 246 (dk_at dksX6_told_0 6 rfl rfl)
theorem dX6_told_9 : decode cX6_told 9 = .ok (.bipush 20, 2) := dk_16 20 (dk_at dksX6_told_0 9 rfl rfl)
theorem dX6_told_11 : decode cX6_told 11 = .ok (.if_icmp .eq 22, 3) := dk_159 0 22 (dk_at dksX6_told_0 11 rfl rfl)
theorem dX6_told_14 : decode cX6_told 14 = .ok (.aload_n 0, 1) := dk_42 (dk_at dksX6_told_0 14 rfl rfl)
theorem dX6_told_15 : decode cX6_told 15 = .ok (.iload_n 1, 1) := dk_27 (dk_at dksX6_told_0 15 rfl rfl)
theorem dX6_told_16 : decode cX6_told 16 = .ok (.invokevirtual 506, 3) := dk_182 1 250 (dk_at dksX6_told_0 16 rfl rfl)
theorem dX6_told_19 : decode cX6_told 19 = .ok (.ifCond .eq 14, 3) := dk_153 0 14 (dk_at dksX6_told_0 19 rfl rfl)
theorem dX6_told_22 : decode cX6_told 22 = .ok (.iload_n 2, 1) := dk_28 (dk_at dksX6_told_0 22 rfl rfl)
theorem dX6_told_23 : decode cX6_told 23 = .ok (.iconst 0, 1) := dk_3 (dk_at dksX6_told_0 23 rfl rfl)
theorem dX6_told_24 : decode cX6_told 24 = .ok (.sipush 19999, 3) := dk_17 78 31 (dk_at dksX6_told_1 0 rfl rfl)
theorem dX6_told_27 : decode cX6_told 27 = .ok (.invokestatic 166, 3) := dk_184 0 166 (dk_at dksX6_told_1 3 rfl rfl)
theorem dX6_told_30 : decode cX6_told 30 = .ok (.ifCond .ne 5, 3) := dk_154 0 5 (dk_at dksX6_told_1 6 rfl rfl)
theorem dX6_told_33 : decode cX6_told 33 = .ok (.iconst (-1), 1) := dk_2 (dk_at dksX6_told_1 9 rfl rfl)
theorem dX6_told_34 : decode cX6_told 34 = .ok (.ireturn, 1) := dk_172 (dk_at dksX6_told_1 10 rfl rfl)
theorem dX6_told_35 : decode cX6_told 35 = .ok (.aload_n 0, 1) := dk_42 (dk_at dksX6_told_1 11 rfl rfl)
theorem dX6_told_36 : decode cX6_told 36 = .ok (.getfield 98, 3) := dk_180 0 98 (dk_at dksX6_told_1 12 rfl rfl)
theorem dX6_told_39 : decode cX6_told 39 = .ok (.aload_n 0, 1) := dk_42 (dk_at dksX6_told_1 15 rfl rfl)
theorem dX6_told_40 : decode cX6_told 40 = .ok (.getfield 246, 3) := dk_180 0 246 (dk_at dksX6_told_1 16 rfl rfl)
theorem dX6_told_43 : decode cX6_told 43 = .ok (.iload_n 1, 1) := dk_27 (dk_at dksX6_told_1 19 rfl rfl)
theorem dX6_told_44 : decode cX6_told 44 = .ok (.iastore, 1) := dk_79 (dk_at dksX6_told_1 20 rfl rfl)
theorem dX6_told_45 : decode cX6_told 45 = .ok (.aload_n 0, 1) := dk_42 (dk_at dksX6_told_1 21 rfl rfl)
theorem dX6_told_46 : decode cX6_told 46 = .ok (.getfield 101, 3) := dk_180 0 101 (dk_at dksX6_told_2 0 rfl rfl)
theorem dX6_told_49 : decode cX6_told 49 = .ok (.aload_n 0, 1) := dk_42 (dk_at dksX6_told_2 3 rfl rfl)
theorem dX6_told_50 : decode cX6_told 50 = .ok (.getfield 246, 3) := dk_180 0 246 (dk_at dksX6_told_2 4 rfl rfl)
theorem dX6_told_53 : decode cX6_told 53 = .ok (.iload_n 2, 1) := dk_28 (dk_at dksX6_told_2 7 rfl rfl)
theorem dX6_told_54 : decode cX6_told 54 = .ok (.iastore, 1) := dk_79 (dk_at dksX6_told_2 8 rfl rfl)
theorem dX6_told_55 : decode cX6_told 55 = .ok (.aload_n 0, 1) := dk_42 (dk_at dksX6_told_2 9 rfl rfl)
theorem dX6_told_56 : decode cX6_told 56 = .ok (.dup, 1) := dk_89 (dk_at dksX6_told_2 10 rfl rfl)
theorem dX6_told_57 : decode cX6_told 57 = .ok (.getfield 246, 3) := dk_180 0 246 (dk_at dksX6_told_2 11 rfl rfl)
theorem dX6_told_60 : decode cX6_told 60 = .ok (.iconst 1, 1) := dk_4 (dk_at dksX6_told_2 14 rfl rfl)
theorem dX6_told_61 : decode cX6_told 61 = .ok (.iadd, 1) := dk_96 (dk_at dksX6_told_2 15 rfl rfl)
theorem dX6_told_62 : decode cX6_told 62 = .ok (.putfield 246, 3) := dk_181 0 246 (dk_at dksX6_told_2 16 rfl rfl)
theorem dX6_told_65 : decode cX6_told 65 = .ok (.aload_n 0, 1) := dk_42 (dk_at dksX6_told_2 19 rfl rfl)
theorem dX6_told_66 : decode cX6_told 66 = .ok (.getfield 246, 3) := dk_180 0 246 (dk_at dksX6_told_2 20 rfl rfl)
theorem dX6_told_69 : decode cX6_told 69 = .ok (.ireturn, 1) := dk_172 (dk_at dksX6_told_2 23 rfl rfl)
abbrev cX6_judged : ByteArray := prog_20_method_118_code
def yX6_judged : MethodName := ⟨RX6, "judged", "()I"⟩
def dkwX6_judged_1 : List UInt8 := [172, 132, 1, 1, 167, 255, 235, 42, 180, 0, 246, 172]
abbrev dktX6_judged_1 : List UInt8 := dkwX6_judged_1 ++ []
def dkwX6_judged_0 : List UInt8 := [42, 3, 181, 0, 119, 3, 60, 27, 42, 180, 0, 246, 162, 0, 19, 42, 27, 182, 2, 25, 154, 0, 5, 27]
abbrev dktX6_judged_0 : List UInt8 := dkwX6_judged_0 ++ dktX6_judged_1
theorem dksX6_judged_0 : cX6_judged.data.toList.drop 0 = dktX6_judged_0 := by decide +kernel
theorem dksX6_judged_1 : cX6_judged.data.toList.drop 24 = dktX6_judged_1 := dk_seg dksX6_judged_0 24 rfl rfl
theorem dX6_judged_0 : decode cX6_judged 0 = .ok (.aload_n 0, 1) := dk_42 (dk_at dksX6_judged_0 0 rfl rfl)
theorem dX6_judged_1 : decode cX6_judged 1 = .ok (.iconst 0, 1) := dk_3 (dk_at dksX6_judged_0 1 rfl rfl)
theorem dX6_judged_2 : decode cX6_judged 2 = .ok (.putfield 119, 3) := dk_181 0 119 (dk_at dksX6_judged_0 2 rfl rfl)
theorem dX6_judged_5 : decode cX6_judged 5 = .ok (.iconst 0, 1) := dk_3 (dk_at dksX6_judged_0 5 rfl rfl)
theorem dX6_judged_6 : decode cX6_judged 6 = .ok (.istore_n 1, 1) := dk_60 (dk_at dksX6_judged_0 6 rfl rfl)
theorem dX6_judged_7 : decode cX6_judged 7 = .ok (.iload_n 1, 1) := dk_27 (dk_at dksX6_judged_0 7 rfl rfl)
theorem dX6_judged_8 : decode cX6_judged 8 = .ok (.aload_n 0, 1) := dk_42 (dk_at dksX6_judged_0 8 rfl rfl)
theorem dX6_judged_9 : decode cX6_judged 9 = .ok (.getfield 246, 3) := dk_180 0 246 (dk_at dksX6_judged_0 9 rfl rfl)
theorem dX6_judged_12 : decode cX6_judged 12 = .ok (.if_icmp .ge 19, 3) := dk_162 0 19 (dk_at dksX6_judged_0 12 rfl rfl)
theorem dX6_judged_15 : decode cX6_judged 15 = .ok (.aload_n 0, 1) := dk_42 (dk_at dksX6_judged_0 15 rfl rfl)
theorem dX6_judged_16 : decode cX6_judged 16 = .ok (.iload_n 1, 1) := dk_27 (dk_at dksX6_judged_0 16 rfl rfl)
theorem dX6_judged_17 : decode cX6_judged 17 = .ok (.invokevirtual 537, 3) := dk_182 2 25 (dk_at dksX6_judged_0 17 rfl rfl)
theorem dX6_judged_20 : decode cX6_judged 20 = .ok (.ifCond .ne 5, 3) := dk_154 0 5 (dk_at dksX6_judged_0 20 rfl rfl)
theorem dX6_judged_23 : decode cX6_judged 23 = .ok (.iload_n 1, 1) := dk_27 (dk_at dksX6_judged_0 23 rfl rfl)
theorem dX6_judged_24 : decode cX6_judged 24 = .ok (.ireturn, 1) := dk_172 (dk_at dksX6_judged_1 0 rfl rfl)
theorem dX6_judged_25 : decode cX6_judged 25 = .ok (.iinc 1 1, 3) := dk_132 1 1 (dk_at dksX6_judged_1 1 rfl rfl)
theorem dX6_judged_28 : decode cX6_judged 28 = .ok (.goto (-21), 3) := dk_167 255 235 (dk_at dksX6_judged_1 4 rfl rfl)
theorem dX6_judged_31 : decode cX6_judged 31 = .ok (.aload_n 0, 1) := dk_42 (dk_at dksX6_judged_1 7 rfl rfl)
theorem dX6_judged_32 : decode cX6_judged 32 = .ok (.getfield 246, 3) := dk_180 0 246 (dk_at dksX6_judged_1 8 rfl rfl)
theorem dX6_judged_35 : decode cX6_judged 35 = .ok (.ireturn, 1) := dk_172 (dk_at dksX6_judged_1 11 rfl rfl)
abbrev cX6_isSo : ByteArray := prog_20_method_117_code
def yX6_isSo : MethodName := ⟨RX6, "isSo", "(I)Z"⟩
def dkwX6_isSo_5 : List UInt8 := [16, 11, 28, 104, 16, 10, 96, 46, 96, 160, 0, 7, 4, 167, 0, 4, 3, 172]
abbrev dktX6_isSo_5 : List UInt8 := dkwX6_isSo_5 ++ []
def dkwX6_isSo_4 : List UInt8 := [29, 62, 132, 4, 1, 167, 255, 213, 29, 155, 0, 26, 42, 180, 0, 101, 27, 46, 29, 42, 180, 0, 60]
abbrev dktX6_isSo_4 : List UInt8 := dkwX6_isSo_4 ++ dktX6_isSo_5
def dkwX6_isSo_3 : List UInt8 := [180, 0, 60, 16, 11, 28, 104, 16, 9, 96, 46, 160, 0, 13, 42, 180, 0, 101, 21, 4, 46, 167, 0, 4]
abbrev dktX6_isSo_3 : List UInt8 := dkwX6_isSo_3 ++ dktX6_isSo_4
def dkwX6_isSo_2 : List UInt8 := [154, 0, 5, 4, 172, 2, 62, 3, 54, 4, 21, 4, 27, 162, 0, 43, 42, 180, 0, 98, 21, 4, 46, 42]
abbrev dktX6_isSo_2 : List UInt8 := dkwX6_isSo_2 ++ dktX6_isSo_3
def dkwX6_isSo_1 : List UInt8 := [182, 1, 238, 154, 0, 5, 3, 172, 42, 180, 0, 60, 16, 11, 28, 104, 46, 16, 7, 184, 1, 41]
abbrev dktX6_isSo_1 : List UInt8 := dkwX6_isSo_1 ++ dktX6_isSo_2
def dkwX6_isSo_0 : List UInt8 := [42, 180, 0, 98, 27, 46, 61, 42, 28, 182, 1, 250, 153, 0, 17, 42, 28, 42, 180, 0, 101, 27, 46]
abbrev dktX6_isSo_0 : List UInt8 := dkwX6_isSo_0 ++ dktX6_isSo_1
theorem dksX6_isSo_0 : cX6_isSo.data.toList.drop 0 = dktX6_isSo_0 := by decide +kernel
theorem dksX6_isSo_1 : cX6_isSo.data.toList.drop 23 = dktX6_isSo_1 := dk_seg dksX6_isSo_0 23 rfl rfl
theorem dksX6_isSo_2 : cX6_isSo.data.toList.drop 45 = dktX6_isSo_2 := dk_seg dksX6_isSo_1 22 rfl rfl
theorem dksX6_isSo_3 : cX6_isSo.data.toList.drop 69 = dktX6_isSo_3 := dk_seg dksX6_isSo_2 24 rfl rfl
theorem dksX6_isSo_4 : cX6_isSo.data.toList.drop 93 = dktX6_isSo_4 := dk_seg dksX6_isSo_3 24 rfl rfl
theorem dksX6_isSo_5 : cX6_isSo.data.toList.drop 116 = dktX6_isSo_5 := dk_seg dksX6_isSo_4 23 rfl rfl
theorem dX6_isSo_0 : decode cX6_isSo 0 = .ok (.aload_n 0, 1) := dk_42 (dk_at dksX6_isSo_0 0 rfl rfl)
theorem dX6_isSo_1 : decode cX6_isSo 1 = .ok (.getfield 98, 3) := dk_180 0 98 (dk_at dksX6_isSo_0 1 rfl rfl)
theorem dX6_isSo_4 : decode cX6_isSo 4 = .ok (.iload_n 1, 1) := dk_27 (dk_at dksX6_isSo_0 4 rfl rfl)
theorem dX6_isSo_5 : decode cX6_isSo 5 = .ok (.iaload, 1) := dk_46 (dk_at dksX6_isSo_0 5 rfl rfl)
theorem dX6_isSo_6 : decode cX6_isSo 6 = .ok (.istore_n 2, 1) := dk_61 (dk_at dksX6_isSo_0 6 rfl rfl)
theorem dX6_isSo_7 : decode cX6_isSo 7 = .ok (.aload_n 0, 1) := dk_42 (dk_at dksX6_isSo_0 7 rfl rfl)
theorem dX6_isSo_8 : decode cX6_isSo 8 = .ok (.iload_n 2, 1) := dk_28 (dk_at dksX6_isSo_0 8 rfl rfl)
theorem dX6_isSo_9 : decode cX6_isSo 9 = .ok (.invokevirtual 506, 3) := dk_182 1 250 (dk_at dksX6_isSo_0 9 rfl rfl)
theorem dX6_isSo_12 : decode cX6_isSo 12 = .ok (.ifCond .eq 17, 3) := dk_153 0 17 (dk_at dksX6_isSo_0 12 rfl rfl)
theorem dX6_isSo_15 : decode cX6_isSo 15 = .ok (.aload_n 0, 1) := dk_42 (dk_at dksX6_isSo_0 15 rfl rfl)
theorem dX6_isSo_16 : decode cX6_isSo 16 = .ok (.iload_n 2, 1) := dk_28 (dk_at dksX6_isSo_0 16 rfl rfl)
theorem dX6_isSo_17 : decode cX6_isSo 17 = .ok (.aload_n 0, 1) := dk_42 (dk_at dksX6_isSo_0 17 rfl rfl)
theorem dX6_isSo_18 : decode cX6_isSo 18 = .ok (.getfield 101, 3) := dk_180 0 101 (dk_at dksX6_isSo_0 18 rfl rfl)
theorem dX6_isSo_21 : decode cX6_isSo 21 = .ok (.iload_n 1, 1) := dk_27 (dk_at dksX6_isSo_0 21 rfl rfl)
theorem dX6_isSo_22 : decode cX6_isSo 22 = .ok (.iaload, 1) := dk_46 (dk_at dksX6_isSo_0 22 rfl rfl)
theorem dX6_isSo_23 : decode cX6_isSo 23 = .ok (.invokevirtual 494, 3) := dk_182 1 238 (dk_at dksX6_isSo_1 0 rfl rfl)
theorem dX6_isSo_26 : decode cX6_isSo 26 = .ok (.ifCond .ne 5, 3) := dk_154 0 5 (dk_at dksX6_isSo_1 3 rfl rfl)
theorem dX6_isSo_29 : decode cX6_isSo 29 = .ok (.iconst 0, 1) := dk_3 (dk_at dksX6_isSo_1 6 rfl rfl)
theorem dX6_isSo_30 : decode cX6_isSo 30 = .ok (.ireturn, 1) := dk_172 (dk_at dksX6_isSo_1 7 rfl rfl)
theorem dX6_isSo_31 : decode cX6_isSo 31 = .ok (.aload_n 0, 1) := dk_42 (dk_at dksX6_isSo_1 8 rfl rfl)
theorem dX6_isSo_32 : decode cX6_isSo 32 = .ok (.getfield 60, 3) := dk_180 0 60 (dk_at dksX6_isSo_1 9 rfl rfl)
theorem dX6_isSo_35 : decode cX6_isSo 35 = .ok (.bipush 11, 2) := dk_16 11 (dk_at dksX6_isSo_1 12 rfl rfl)
theorem dX6_isSo_37 : decode cX6_isSo 37 = .ok (.iload_n 2, 1) := dk_28 (dk_at dksX6_isSo_1 14 rfl rfl)
theorem dX6_isSo_38 : decode cX6_isSo 38 = .ok (.imul, 1) := dk_104 (dk_at dksX6_isSo_1 15 rfl rfl)
theorem dX6_isSo_39 : decode cX6_isSo 39 = .ok (.iaload, 1) := dk_46 (dk_at dksX6_isSo_1 16 rfl rfl)
theorem dX6_isSo_40 : decode cX6_isSo 40 = .ok (.bipush 7, 2) := dk_16 7 (dk_at dksX6_isSo_1 17 rfl rfl)
theorem dX6_isSo_42 : decode cX6_isSo 42 = .ok (.invokestatic 297, 3) := dk_184 1 41 (dk_at dksX6_isSo_1 19 rfl rfl)
theorem dX6_isSo_45 : decode cX6_isSo 45 = .ok (.ifCond .ne 5, 3) := dk_154 0 5 (dk_at dksX6_isSo_2 0 rfl rfl)
theorem dX6_isSo_48 : decode cX6_isSo 48 = .ok (.iconst 1, 1) := dk_4 (dk_at dksX6_isSo_2 3 rfl rfl)
theorem dX6_isSo_49 : decode cX6_isSo 49 = .ok (.ireturn, 1) := dk_172 (dk_at dksX6_isSo_2 4 rfl rfl)
theorem dX6_isSo_50 : decode cX6_isSo 50 = .ok (.iconst (-1), 1) := dk_2 (dk_at dksX6_isSo_2 5 rfl rfl)
theorem dX6_isSo_51 : decode cX6_isSo 51 = .ok (.istore_n 3, 1) := dk_62 (dk_at dksX6_isSo_2 6 rfl rfl)
theorem dX6_isSo_52 : decode cX6_isSo 52 = .ok (.iconst 0, 1) := dk_3 (dk_at dksX6_isSo_2 7 rfl rfl)
theorem dX6_isSo_53 : decode cX6_isSo 53 = .ok (.istore 4, 2) := dk_54 4 (dk_at dksX6_isSo_2 8 rfl rfl)
theorem dX6_isSo_55 : decode cX6_isSo 55 = .ok (.iload 4, 2) := dk_21 4 (dk_at dksX6_isSo_2 10 rfl rfl)
theorem dX6_isSo_57 : decode cX6_isSo 57 = .ok (.iload_n 1, 1) := dk_27 (dk_at dksX6_isSo_2 12 rfl rfl)
theorem dX6_isSo_58 : decode cX6_isSo 58 = .ok (.if_icmp .ge 43, 3) := dk_162 0 43 (dk_at dksX6_isSo_2 13 rfl rfl)
theorem dX6_isSo_61 : decode cX6_isSo 61 = .ok (.aload_n 0, 1) := dk_42 (dk_at dksX6_isSo_2 16 rfl rfl)
theorem dX6_isSo_62 : decode cX6_isSo 62 = .ok (.getfield 98, 3) := dk_180 0 98 (dk_at dksX6_isSo_2 17 rfl rfl)
theorem dX6_isSo_65 : decode cX6_isSo 65 = .ok (.iload 4, 2) := dk_21 4 (dk_at dksX6_isSo_2 20 rfl rfl)
theorem dX6_isSo_67 : decode cX6_isSo 67 = .ok (.iaload, 1) := dk_46 (dk_at dksX6_isSo_2 22 rfl rfl)
theorem dX6_isSo_68 : decode cX6_isSo 68 = .ok (.aload_n 0, 1) := dk_42 (dk_at dksX6_isSo_2 23 rfl rfl)
theorem dX6_isSo_69 : decode cX6_isSo 69 = .ok (.getfield 60, 3) := dk_180 0 60 (dk_at dksX6_isSo_3 0 rfl rfl)
theorem dX6_isSo_72 : decode cX6_isSo 72 = .ok (.bipush 11, 2) := dk_16 11 (dk_at dksX6_isSo_3 3 rfl rfl)
theorem dX6_isSo_74 : decode cX6_isSo 74 = .ok (.iload_n 2, 1) := dk_28 (dk_at dksX6_isSo_3 5 rfl rfl)
theorem dX6_isSo_75 : decode cX6_isSo 75 = .ok (.imul, 1) := dk_104 (dk_at dksX6_isSo_3 6 rfl rfl)
theorem dX6_isSo_76 : decode cX6_isSo 76 = .ok (.bipush 9, 2) := dk_16 9 (dk_at dksX6_isSo_3 7 rfl rfl)
theorem dX6_isSo_78 : decode cX6_isSo 78 = .ok (.iadd, 1) := dk_96 (dk_at dksX6_isSo_3 9 rfl rfl)
theorem dX6_isSo_79 : decode cX6_isSo 79 = .ok (.iaload, 1) := dk_46 (dk_at dksX6_isSo_3 10 rfl rfl)
theorem dX6_isSo_80 : decode cX6_isSo 80 = .ok (.if_icmp .ne 13, 3) := dk_160 0 13 (dk_at dksX6_isSo_3 11 rfl rfl)
theorem dX6_isSo_83 : decode cX6_isSo 83 = .ok (.aload_n 0, 1) := dk_42 (dk_at dksX6_isSo_3 14 rfl rfl)
theorem dX6_isSo_84 : decode cX6_isSo 84 = .ok (.getfield 101, 3) := dk_180 0 101 (dk_at dksX6_isSo_3 15 rfl rfl)
theorem dX6_isSo_87 : decode cX6_isSo 87 = .ok (.iload 4, 2) := dk_21 4 (dk_at dksX6_isSo_3 18 rfl rfl)
theorem dX6_isSo_89 : decode cX6_isSo 89 = .ok (.iaload, 1) := dk_46 (dk_at dksX6_isSo_3 20 rfl rfl)
theorem dX6_isSo_90 : decode cX6_isSo 90 = .ok (.goto 4, 3) := dk_167 0 4 (dk_at dksX6_isSo_3 21 rfl rfl)
theorem dX6_isSo_93 : decode cX6_isSo 93 = .ok (.iload_n 3, 1) := dk_29 (dk_at dksX6_isSo_4 0 rfl rfl)
theorem dX6_isSo_94 : decode cX6_isSo 94 = .ok (.istore_n 3, 1) := dk_62 (dk_at dksX6_isSo_4 1 rfl rfl)
theorem dX6_isSo_95 : decode cX6_isSo 95 = .ok (.iinc 4 1, 3) := dk_132 4 1 (dk_at dksX6_isSo_4 2 rfl rfl)
theorem dX6_isSo_98 : decode cX6_isSo 98 = .ok (.goto (-43), 3) := dk_167 255 213 (dk_at dksX6_isSo_4 5 rfl rfl)
theorem dX6_isSo_101 : decode cX6_isSo 101 = .ok (.iload_n 3, 1) := dk_29 (dk_at dksX6_isSo_4 8 rfl rfl)
theorem dX6_isSo_102 : decode cX6_isSo 102 = .ok (.ifCond .lt 26, 3) := dk_155 0 26 (dk_at dksX6_isSo_4 9 rfl rfl)
theorem dX6_isSo_105 : decode cX6_isSo 105 = .ok (.aload_n 0, 1) := dk_42 (dk_at dksX6_isSo_4 12 rfl rfl)
theorem dX6_isSo_106 : decode cX6_isSo 106 = .ok (.getfield 101, 3) := dk_180 0 101 (dk_at dksX6_isSo_4 13 rfl rfl)
theorem dX6_isSo_109 : decode cX6_isSo 109 = .ok (.iload_n 1, 1) := dk_27 (dk_at dksX6_isSo_4 16 rfl rfl)
theorem dX6_isSo_110 : decode cX6_isSo 110 = .ok (.iaload, 1) := dk_46 (dk_at dksX6_isSo_4 17 rfl rfl)
theorem dX6_isSo_111 : decode cX6_isSo 111 = .ok (.iload_n 3, 1) := dk_29 (dk_at dksX6_isSo_4 18 rfl rfl)
theorem dX6_isSo_112 : decode cX6_isSo 112 = .ok (.aload_n 0, 1) := dk_42 (dk_at dksX6_isSo_4 19 rfl rfl)
theorem dX6_isSo_113 : decode cX6_isSo 113 = .ok (.getfield 60, 3) := dk_180 0 60 (dk_at dksX6_isSo_4 20 rfl rfl)
theorem dX6_isSo_116 : decode cX6_isSo 116 = .ok (.bipush 11, 2) := dk_16 11 (dk_at dksX6_isSo_5 0 rfl rfl)
theorem dX6_isSo_118 : decode cX6_isSo 118 = .ok (.iload_n 2, 1) := dk_28 (dk_at dksX6_isSo_5 2 rfl rfl)
theorem dX6_isSo_119 : decode cX6_isSo 119 = .ok (.imul, 1) := dk_104 (dk_at dksX6_isSo_5 3 rfl rfl)
theorem dX6_isSo_120 : decode cX6_isSo 120 = .ok (.bipush 10, 2) := dk_16 10 (dk_at dksX6_isSo_5 4 rfl rfl)
theorem dX6_isSo_122 : decode cX6_isSo 122 = .ok (.iadd, 1) := dk_96 (dk_at dksX6_isSo_5 6 rfl rfl)
theorem dX6_isSo_123 : decode cX6_isSo 123 = .ok (.iaload, 1) := dk_46 (dk_at dksX6_isSo_5 7 rfl rfl)
theorem dX6_isSo_124 : decode cX6_isSo 124 = .ok (.iadd, 1) := dk_96 (dk_at dksX6_isSo_5 8 rfl rfl)
theorem dX6_isSo_125 : decode cX6_isSo 125 = .ok (.if_icmp .ne 7, 3) := dk_160 0 7 (dk_at dksX6_isSo_5 9 rfl rfl)
theorem dX6_isSo_128 : decode cX6_isSo 128 = .ok (.iconst 1, 1) := dk_4 (dk_at dksX6_isSo_5 12 rfl rfl)
theorem dX6_isSo_129 : decode cX6_isSo 129 = .ok (.goto 4, 3) := dk_167 0 4 (dk_at dksX6_isSo_5 13 rfl rfl)
theorem dX6_isSo_132 : decode cX6_isSo 132 = .ok (.iconst 0, 1) := dk_3 (dk_at dksX6_isSo_5 16 rfl rfl)
theorem dX6_isSo_133 : decode cX6_isSo 133 = .ok (.ireturn, 1) := dk_172 (dk_at dksX6_isSo_5 17 rfl rfl)
abbrev cX6_forget : ByteArray := prog_20_method_119_code
def yX6_forget : MethodName := ⟨RX6, "forget", "()I"⟩
def dkwX6_forget_0 : List UInt8 := [42, 3, 181, 0, 119, 42, 180, 0, 246, 60, 42, 3, 181, 0, 246, 27, 172]
abbrev dktX6_forget_0 : List UInt8 := dkwX6_forget_0 ++ []
theorem dksX6_forget_0 : cX6_forget.data.toList.drop 0 = dktX6_forget_0 := by decide +kernel
theorem dX6_forget_0 : decode cX6_forget 0 = .ok (.aload_n 0, 1) := dk_42 (dk_at dksX6_forget_0 0 rfl rfl)
theorem dX6_forget_1 : decode cX6_forget 1 = .ok (.iconst 0, 1) := dk_3 (dk_at dksX6_forget_0 1 rfl rfl)
theorem dX6_forget_2 : decode cX6_forget 2 = .ok (.putfield 119, 3) := dk_181 0 119 (dk_at dksX6_forget_0 2 rfl rfl)
theorem dX6_forget_5 : decode cX6_forget 5 = .ok (.aload_n 0, 1) := dk_42 (dk_at dksX6_forget_0 5 rfl rfl)
theorem dX6_forget_6 : decode cX6_forget 6 = .ok (.getfield 246, 3) := dk_180 0 246 (dk_at dksX6_forget_0 6 rfl rfl)
theorem dX6_forget_9 : decode cX6_forget 9 = .ok (.istore_n 1, 1) := dk_60 (dk_at dksX6_forget_0 9 rfl rfl)
theorem dX6_forget_10 : decode cX6_forget 10 = .ok (.aload_n 0, 1) := dk_42 (dk_at dksX6_forget_0 10 rfl rfl)
theorem dX6_forget_11 : decode cX6_forget 11 = .ok (.iconst 0, 1) := dk_3 (dk_at dksX6_forget_0 11 rfl rfl)
theorem dX6_forget_12 : decode cX6_forget 12 = .ok (.putfield 246, 3) := dk_181 0 246 (dk_at dksX6_forget_0 12 rfl rfl)
theorem dX6_forget_15 : decode cX6_forget 15 = .ok (.iload_n 1, 1) := dk_27 (dk_at dksX6_forget_0 15 rfl rfl)
theorem dX6_forget_16 : decode cX6_forget 16 = .ok (.ireturn, 1) := dk_172 (dk_at dksX6_forget_0 16 rfl rfl)
abbrev cX6_keep : ByteArray := prog_20_method_120_code
def yX6_keep : MethodName := ⟨RX6, "keep", "()I"⟩
def dkwX6_keep_4 : List UInt8 := [172]
abbrev dktX6_keep_4 : List UInt8 := dkwX6_keep_4 ++ []
def dkwX6_keep_3 : List UInt8 := [46, 79, 42, 180, 0, 110, 27, 42, 180, 0, 101, 27, 46, 79, 132, 1, 1, 167, 255, 223, 42, 180, 0, 229]
abbrev dktX6_keep_3 : List UInt8 := dkwX6_keep_3 ++ dktX6_keep_4
def dkwX6_keep_2 : List UInt8 := [132, 1, 1, 167, 255, 234, 3, 60, 27, 16, 20, 162, 0, 33, 42, 180, 0, 107, 27, 42, 180, 0, 98, 27]
abbrev dktX6_keep_2 : List UInt8 := dkwX6_keep_2 ++ dktX6_keep_3
def dkwX6_keep_1 : List UInt8 := [181, 2, 31, 3, 60, 27, 17, 0, 132, 162, 0, 21, 42, 180, 0, 104, 27, 42, 180, 0, 60, 27, 46, 79]
abbrev dktX6_keep_1 : List UInt8 := dkwX6_keep_1 ++ dktX6_keep_2
def dkwX6_keep_0 : List UInt8 := [42, 3, 181, 0, 119, 42, 4, 181, 0, 252, 42, 42, 180, 0, 229, 181, 2, 28, 42, 42, 180, 0, 246]
abbrev dktX6_keep_0 : List UInt8 := dkwX6_keep_0 ++ dktX6_keep_1
theorem dksX6_keep_0 : cX6_keep.data.toList.drop 0 = dktX6_keep_0 := by decide +kernel
theorem dksX6_keep_1 : cX6_keep.data.toList.drop 23 = dktX6_keep_1 := dk_seg dksX6_keep_0 23 rfl rfl
theorem dksX6_keep_2 : cX6_keep.data.toList.drop 47 = dktX6_keep_2 := dk_seg dksX6_keep_1 24 rfl rfl
theorem dksX6_keep_3 : cX6_keep.data.toList.drop 71 = dktX6_keep_3 := dk_seg dksX6_keep_2 24 rfl rfl
theorem dksX6_keep_4 : cX6_keep.data.toList.drop 95 = dktX6_keep_4 := dk_seg dksX6_keep_3 24 rfl rfl
theorem dX6_keep_0 : decode cX6_keep 0 = .ok (.aload_n 0, 1) := dk_42 (dk_at dksX6_keep_0 0 rfl rfl)
theorem dX6_keep_1 : decode cX6_keep 1 = .ok (.iconst 0, 1) := dk_3 (dk_at dksX6_keep_0 1 rfl rfl)
theorem dX6_keep_2 : decode cX6_keep 2 = .ok (.putfield 119, 3) := dk_181 0 119 (dk_at dksX6_keep_0 2 rfl rfl)
theorem dX6_keep_5 : decode cX6_keep 5 = .ok (.aload_n 0, 1) := dk_42 (dk_at dksX6_keep_0 5 rfl rfl)
theorem dX6_keep_6 : decode cX6_keep 6 = .ok (.iconst 1, 1) := dk_4 (dk_at dksX6_keep_0 6 rfl rfl)
theorem dX6_keep_7 : decode cX6_keep 7 = .ok (.putfield 252, 3) := dk_181 0 252 (dk_at dksX6_keep_0 7 rfl rfl)
theorem dX6_keep_10 : decode cX6_keep 10 = .ok (.aload_n 0, 1) := dk_42 (dk_at dksX6_keep_0 10 rfl rfl)
theorem dX6_keep_11 : decode cX6_keep 11 = .ok (.aload_n 0, 1) := dk_42 (dk_at dksX6_keep_0 11 rfl rfl)
theorem dX6_keep_12 : decode cX6_keep 12 = .ok (.getfield 229, 3) := dk_180 0 229 (dk_at dksX6_keep_0 12 rfl rfl)
theorem dX6_keep_15 : decode cX6_keep 15 = .ok (.putfield 540, 3) := dk_181 2 28 (dk_at dksX6_keep_0 15 rfl rfl)
theorem dX6_keep_18 : decode cX6_keep 18 = .ok (.aload_n 0, 1) := dk_42 (dk_at dksX6_keep_0 18 rfl rfl)
theorem dX6_keep_19 : decode cX6_keep 19 = .ok (.aload_n 0, 1) := dk_42 (dk_at dksX6_keep_0 19 rfl rfl)
theorem dX6_keep_20 : decode cX6_keep 20 = .ok (.getfield 246, 3) := dk_180 0 246 (dk_at dksX6_keep_0 20 rfl rfl)
theorem dX6_keep_23 : decode cX6_keep 23 = .ok (.putfield 543, 3) := dk_181 2 31 (dk_at dksX6_keep_1 0 rfl rfl)
theorem dX6_keep_26 : decode cX6_keep 26 = .ok (.iconst 0, 1) := dk_3 (dk_at dksX6_keep_1 3 rfl rfl)
theorem dX6_keep_27 : decode cX6_keep 27 = .ok (.istore_n 1, 1) := dk_60 (dk_at dksX6_keep_1 4 rfl rfl)
theorem dX6_keep_28 : decode cX6_keep 28 = .ok (.iload_n 1, 1) := dk_27 (dk_at dksX6_keep_1 5 rfl rfl)
theorem dX6_keep_29 : decode cX6_keep 29 = .ok (.sipush 132, 3) := dk_17 0 132 (dk_at dksX6_keep_1 6 rfl rfl)
theorem dX6_keep_32 : decode cX6_keep 32 = .ok (.if_icmp .ge 21, 3) := dk_162 0 21 (dk_at dksX6_keep_1 9 rfl rfl)
theorem dX6_keep_35 : decode cX6_keep 35 = .ok (.aload_n 0, 1) := dk_42 (dk_at dksX6_keep_1 12 rfl rfl)
theorem dX6_keep_36 : decode cX6_keep 36 = .ok (.getfield 104, 3) := dk_180 0 104 (dk_at dksX6_keep_1 13 rfl rfl)
theorem dX6_keep_39 : decode cX6_keep 39 = .ok (.iload_n 1, 1) := dk_27 (dk_at dksX6_keep_1 16 rfl rfl)
theorem dX6_keep_40 : decode cX6_keep 40 = .ok (.aload_n 0, 1) := dk_42 (dk_at dksX6_keep_1 17 rfl rfl)
theorem dX6_keep_41 : decode cX6_keep 41 = .ok (.getfield 60, 3) := dk_180 0 60 (dk_at dksX6_keep_1 18 rfl rfl)
theorem dX6_keep_44 : decode cX6_keep 44 = .ok (.iload_n 1, 1) := dk_27 (dk_at dksX6_keep_1 21 rfl rfl)
theorem dX6_keep_45 : decode cX6_keep 45 = .ok (.iaload, 1) := dk_46 (dk_at dksX6_keep_1 22 rfl rfl)
theorem dX6_keep_46 : decode cX6_keep 46 = .ok (.iastore, 1) := dk_79 (dk_at dksX6_keep_1 23 rfl rfl)
theorem dX6_keep_47 : decode cX6_keep 47 = .ok (.iinc 1 1, 3) := dk_132 1 1 (dk_at dksX6_keep_2 0 rfl rfl)
theorem dX6_keep_50 : decode cX6_keep 50 = .ok (.goto (-22), 3) := dk_167 255 234 (dk_at dksX6_keep_2 3 rfl rfl)
theorem dX6_keep_53 : decode cX6_keep 53 = .ok (.iconst 0, 1) := dk_3 (dk_at dksX6_keep_2 6 rfl rfl)
theorem dX6_keep_54 : decode cX6_keep 54 = .ok (.istore_n 1, 1) := dk_60 (dk_at dksX6_keep_2 7 rfl rfl)
theorem dX6_keep_55 : decode cX6_keep 55 = .ok (.iload_n 1, 1) := dk_27 (dk_at dksX6_keep_2 8 rfl rfl)
theorem dX6_keep_56 : decode cX6_keep 56 = .ok (.bipush 20, 2) := dk_16 20 (dk_at dksX6_keep_2 9 rfl rfl)
theorem dX6_keep_58 : decode cX6_keep 58 = .ok (.if_icmp .ge 33, 3) := dk_162 0 33 (dk_at dksX6_keep_2 11 rfl rfl)
theorem dX6_keep_61 : decode cX6_keep 61 = .ok (.aload_n 0, 1) := dk_42 (dk_at dksX6_keep_2 14 rfl rfl)
theorem dX6_keep_62 : decode cX6_keep 62 = .ok (.getfield 107, 3) := dk_180 0 107 (dk_at dksX6_keep_2 15 rfl rfl)
theorem dX6_keep_65 : decode cX6_keep 65 = .ok (.iload_n 1, 1) := dk_27 (dk_at dksX6_keep_2 18 rfl rfl)
theorem dX6_keep_66 : decode cX6_keep 66 = .ok (.aload_n 0, 1) := dk_42 (dk_at dksX6_keep_2 19 rfl rfl)
theorem dX6_keep_67 : decode cX6_keep 67 = .ok (.getfield 98, 3) := dk_180 0 98 (dk_at dksX6_keep_2 20 rfl rfl)
theorem dX6_keep_70 : decode cX6_keep 70 = .ok (.iload_n 1, 1) := dk_27 (dk_at dksX6_keep_2 23 rfl rfl)
theorem dX6_keep_71 : decode cX6_keep 71 = .ok (.iaload, 1) := dk_46 (dk_at dksX6_keep_3 0 rfl rfl)
theorem dX6_keep_72 : decode cX6_keep 72 = .ok (.iastore, 1) := dk_79 (dk_at dksX6_keep_3 1 rfl rfl)
theorem dX6_keep_73 : decode cX6_keep 73 = .ok (.aload_n 0, 1) := dk_42 (dk_at dksX6_keep_3 2 rfl rfl)
theorem dX6_keep_74 : decode cX6_keep 74 = .ok (.getfield 110, 3) := dk_180 0 110 (dk_at dksX6_keep_3 3 rfl rfl)
theorem dX6_keep_77 : decode cX6_keep 77 = .ok (.iload_n 1, 1) := dk_27 (dk_at dksX6_keep_3 6 rfl rfl)
theorem dX6_keep_78 : decode cX6_keep 78 = .ok (.aload_n 0, 1) := dk_42 (dk_at dksX6_keep_3 7 rfl rfl)
theorem dX6_keep_79 : decode cX6_keep 79 = .ok (.getfield 101, 3) := dk_180 0 101 (dk_at dksX6_keep_3 8 rfl rfl)
theorem dX6_keep_82 : decode cX6_keep 82 = .ok (.iload_n 1, 1) := dk_27 (dk_at dksX6_keep_3 11 rfl rfl)
theorem dX6_keep_83 : decode cX6_keep 83 = .ok (.iaload, 1) := dk_46 (dk_at dksX6_keep_3 12 rfl rfl)
theorem dX6_keep_84 : decode cX6_keep 84 = .ok (.iastore, 1) := dk_79 (dk_at dksX6_keep_3 13 rfl rfl)
theorem dX6_keep_85 : decode cX6_keep 85 = .ok (.iinc 1 1, 3) := dk_132 1 1 (dk_at dksX6_keep_3 14 rfl rfl)
theorem dX6_keep_88 : decode cX6_keep 88 = .ok (.goto (-33), 3) := dk_167 255 223 (dk_at dksX6_keep_3 17 rfl rfl)
theorem dX6_keep_91 : decode cX6_keep 91 = .ok (.aload_n 0, 1) := dk_42 (dk_at dksX6_keep_3 20 rfl rfl)
theorem dX6_keep_92 : decode cX6_keep 92 = .ok (.getfield 229, 3) := dk_180 0 229 (dk_at dksX6_keep_3 21 rfl rfl)
theorem dX6_keep_95 : decode cX6_keep 95 = .ok (.ireturn, 1) := dk_172 (dk_at dksX6_keep_4 0 rfl rfl)
abbrev cX6_back : ByteArray := prog_20_method_121_code
def yX6_back : MethodName := ⟨RX6, "back", "()I"⟩
def dkwX6_back_4 : List UInt8 := [42, 3, 181, 0, 249, 42, 180, 0, 229, 172]
abbrev dktX6_back_4 : List UInt8 := dkwX6_back_4 ++ []
def dkwX6_back_3 : List UInt8 := [180, 0, 107, 27, 46, 79, 42, 180, 0, 101, 27, 42, 180, 0, 110, 27, 46, 79, 132, 1, 1, 167, 255, 223]
abbrev dktX6_back_3 : List UInt8 := dkwX6_back_3 ++ dktX6_back_4
def dkwX6_back_2 : List UInt8 := [27, 46, 79, 132, 1, 1, 167, 255, 234, 3, 60, 27, 16, 20, 162, 0, 33, 42, 180, 0, 98, 27, 42]
abbrev dktX6_back_2 : List UInt8 := dkwX6_back_2 ++ dktX6_back_3
def dkwX6_back_1 : List UInt8 := [180, 2, 31, 181, 0, 246, 3, 60, 27, 17, 0, 132, 162, 0, 21, 42, 180, 0, 60, 27, 42, 180, 0, 104]
abbrev dktX6_back_1 : List UInt8 := dkwX6_back_1 ++ dktX6_back_2
def dkwX6_back_0 : List UInt8 := [42, 3, 181, 0, 119, 42, 180, 0, 252, 154, 0, 5, 2, 172, 42, 42, 180, 2, 28, 181, 0, 229, 42, 42]
abbrev dktX6_back_0 : List UInt8 := dkwX6_back_0 ++ dktX6_back_1
theorem dksX6_back_0 : cX6_back.data.toList.drop 0 = dktX6_back_0 := by decide +kernel
theorem dksX6_back_1 : cX6_back.data.toList.drop 24 = dktX6_back_1 := dk_seg dksX6_back_0 24 rfl rfl
theorem dksX6_back_2 : cX6_back.data.toList.drop 48 = dktX6_back_2 := dk_seg dksX6_back_1 24 rfl rfl
theorem dksX6_back_3 : cX6_back.data.toList.drop 71 = dktX6_back_3 := dk_seg dksX6_back_2 23 rfl rfl
theorem dksX6_back_4 : cX6_back.data.toList.drop 95 = dktX6_back_4 := dk_seg dksX6_back_3 24 rfl rfl
theorem dX6_back_0 : decode cX6_back 0 = .ok (.aload_n 0, 1) := dk_42 (dk_at dksX6_back_0 0 rfl rfl)
theorem dX6_back_1 : decode cX6_back 1 = .ok (.iconst 0, 1) := dk_3 (dk_at dksX6_back_0 1 rfl rfl)
theorem dX6_back_2 : decode cX6_back 2 = .ok (.putfield 119, 3) := dk_181 0 119 (dk_at dksX6_back_0 2 rfl rfl)
theorem dX6_back_5 : decode cX6_back 5 = .ok (.aload_n 0, 1) := dk_42 (dk_at dksX6_back_0 5 rfl rfl)
theorem dX6_back_6 : decode cX6_back 6 = .ok (.getfield 252, 3) := dk_180 0 252 (dk_at dksX6_back_0 6 rfl rfl)
theorem dX6_back_9 : decode cX6_back 9 = .ok (.ifCond .ne 5, 3) := dk_154 0 5 (dk_at dksX6_back_0 9 rfl rfl)
theorem dX6_back_12 : decode cX6_back 12 = .ok (.iconst (-1), 1) := dk_2 (dk_at dksX6_back_0 12 rfl rfl)
theorem dX6_back_13 : decode cX6_back 13 = .ok (.ireturn, 1) := dk_172 (dk_at dksX6_back_0 13 rfl rfl)
theorem dX6_back_14 : decode cX6_back 14 = .ok (.aload_n 0, 1) := dk_42 (dk_at dksX6_back_0 14 rfl rfl)
theorem dX6_back_15 : decode cX6_back 15 = .ok (.aload_n 0, 1) := dk_42 (dk_at dksX6_back_0 15 rfl rfl)
theorem dX6_back_16 : decode cX6_back 16 = .ok (.getfield 540, 3) := dk_180 2 28 (dk_at dksX6_back_0 16 rfl rfl)
theorem dX6_back_19 : decode cX6_back 19 = .ok (.putfield 229, 3) := dk_181 0 229 (dk_at dksX6_back_0 19 rfl rfl)
theorem dX6_back_22 : decode cX6_back 22 = .ok (.aload_n 0, 1) := dk_42 (dk_at dksX6_back_0 22 rfl rfl)
theorem dX6_back_23 : decode cX6_back 23 = .ok (.aload_n 0, 1) := dk_42 (dk_at dksX6_back_0 23 rfl rfl)
theorem dX6_back_24 : decode cX6_back 24 = .ok (.getfield 543, 3) := dk_180 2 31 (dk_at dksX6_back_1 0 rfl rfl)
theorem dX6_back_27 : decode cX6_back 27 = .ok (.putfield 246, 3) := dk_181 0 246 (dk_at dksX6_back_1 3 rfl rfl)
theorem dX6_back_30 : decode cX6_back 30 = .ok (.iconst 0, 1) := dk_3 (dk_at dksX6_back_1 6 rfl rfl)
theorem dX6_back_31 : decode cX6_back 31 = .ok (.istore_n 1, 1) := dk_60 (dk_at dksX6_back_1 7 rfl rfl)
theorem dX6_back_32 : decode cX6_back 32 = .ok (.iload_n 1, 1) := dk_27 (dk_at dksX6_back_1 8 rfl rfl)
theorem dX6_back_33 : decode cX6_back 33 = .ok (.sipush 132, 3) := dk_17 0 132 (dk_at dksX6_back_1 9 rfl rfl)
theorem dX6_back_36 : decode cX6_back 36 = .ok (.if_icmp .ge 21, 3) := dk_162 0 21 (dk_at dksX6_back_1 12 rfl rfl)
theorem dX6_back_39 : decode cX6_back 39 = .ok (.aload_n 0, 1) := dk_42 (dk_at dksX6_back_1 15 rfl rfl)
theorem dX6_back_40 : decode cX6_back 40 = .ok (.getfield 60, 3) := dk_180 0 60 (dk_at dksX6_back_1 16 rfl rfl)
theorem dX6_back_43 : decode cX6_back 43 = .ok (.iload_n 1, 1) := dk_27 (dk_at dksX6_back_1 19 rfl rfl)
theorem dX6_back_44 : decode cX6_back 44 = .ok (.aload_n 0, 1) := dk_42 (dk_at dksX6_back_1 20 rfl rfl)
theorem dX6_back_45 : decode cX6_back 45 = .ok (.getfield 104, 3) := dk_180 0 104 (dk_at dksX6_back_1 21 rfl rfl)
theorem dX6_back_48 : decode cX6_back 48 = .ok (.iload_n 1, 1) := dk_27 (dk_at dksX6_back_2 0 rfl rfl)
theorem dX6_back_49 : decode cX6_back 49 = .ok (.iaload, 1) := dk_46 (dk_at dksX6_back_2 1 rfl rfl)
theorem dX6_back_50 : decode cX6_back 50 = .ok (.iastore, 1) := dk_79 (dk_at dksX6_back_2 2 rfl rfl)
theorem dX6_back_51 : decode cX6_back 51 = .ok (.iinc 1 1, 3) := dk_132 1 1 (dk_at dksX6_back_2 3 rfl rfl)
theorem dX6_back_54 : decode cX6_back 54 = .ok (.goto (-22), 3) := dk_167 255 234 (dk_at dksX6_back_2 6 rfl rfl)
theorem dX6_back_57 : decode cX6_back 57 = .ok (.iconst 0, 1) := dk_3 (dk_at dksX6_back_2 9 rfl rfl)
theorem dX6_back_58 : decode cX6_back 58 = .ok (.istore_n 1, 1) := dk_60 (dk_at dksX6_back_2 10 rfl rfl)
theorem dX6_back_59 : decode cX6_back 59 = .ok (.iload_n 1, 1) := dk_27 (dk_at dksX6_back_2 11 rfl rfl)
theorem dX6_back_60 : decode cX6_back 60 = .ok (.bipush 20, 2) := dk_16 20 (dk_at dksX6_back_2 12 rfl rfl)
theorem dX6_back_62 : decode cX6_back 62 = .ok (.if_icmp .ge 33, 3) := dk_162 0 33 (dk_at dksX6_back_2 14 rfl rfl)
theorem dX6_back_65 : decode cX6_back 65 = .ok (.aload_n 0, 1) := dk_42 (dk_at dksX6_back_2 17 rfl rfl)
theorem dX6_back_66 : decode cX6_back 66 = .ok (.getfield 98, 3) := dk_180 0 98 (dk_at dksX6_back_2 18 rfl rfl)
theorem dX6_back_69 : decode cX6_back 69 = .ok (.iload_n 1, 1) := dk_27 (dk_at dksX6_back_2 21 rfl rfl)
theorem dX6_back_70 : decode cX6_back 70 = .ok (.aload_n 0, 1) := dk_42 (dk_at dksX6_back_2 22 rfl rfl)
theorem dX6_back_71 : decode cX6_back 71 = .ok (.getfield 107, 3) := dk_180 0 107 (dk_at dksX6_back_3 0 rfl rfl)
theorem dX6_back_74 : decode cX6_back 74 = .ok (.iload_n 1, 1) := dk_27 (dk_at dksX6_back_3 3 rfl rfl)
theorem dX6_back_75 : decode cX6_back 75 = .ok (.iaload, 1) := dk_46 (dk_at dksX6_back_3 4 rfl rfl)
theorem dX6_back_76 : decode cX6_back 76 = .ok (.iastore, 1) := dk_79 (dk_at dksX6_back_3 5 rfl rfl)
theorem dX6_back_77 : decode cX6_back 77 = .ok (.aload_n 0, 1) := dk_42 (dk_at dksX6_back_3 6 rfl rfl)
theorem dX6_back_78 : decode cX6_back 78 = .ok (.getfield 101, 3) := dk_180 0 101 (dk_at dksX6_back_3 7 rfl rfl)
theorem dX6_back_81 : decode cX6_back 81 = .ok (.iload_n 1, 1) := dk_27 (dk_at dksX6_back_3 10 rfl rfl)
theorem dX6_back_82 : decode cX6_back 82 = .ok (.aload_n 0, 1) := dk_42 (dk_at dksX6_back_3 11 rfl rfl)
theorem dX6_back_83 : decode cX6_back 83 = .ok (.getfield 110, 3) := dk_180 0 110 (dk_at dksX6_back_3 12 rfl rfl)
theorem dX6_back_86 : decode cX6_back 86 = .ok (.iload_n 1, 1) := dk_27 (dk_at dksX6_back_3 15 rfl rfl)
theorem dX6_back_87 : decode cX6_back 87 = .ok (.iaload, 1) := dk_46 (dk_at dksX6_back_3 16 rfl rfl)
theorem dX6_back_88 : decode cX6_back 88 = .ok (.iastore, 1) := dk_79 (dk_at dksX6_back_3 17 rfl rfl)
theorem dX6_back_89 : decode cX6_back 89 = .ok (.iinc 1 1, 3) := dk_132 1 1 (dk_at dksX6_back_3 18 rfl rfl)
theorem dX6_back_92 : decode cX6_back 92 = .ok (.goto (-33), 3) := dk_167 255 223 (dk_at dksX6_back_3 21 rfl rfl)
theorem dX6_back_95 : decode cX6_back 95 = .ok (.aload_n 0, 1) := dk_42 (dk_at dksX6_back_4 0 rfl rfl)
theorem dX6_back_96 : decode cX6_back 96 = .ok (.iconst 0, 1) := dk_3 (dk_at dksX6_back_4 1 rfl rfl)
theorem dX6_back_97 : decode cX6_back 97 = .ok (.putfield 249, 3) := dk_181 0 249 (dk_at dksX6_back_4 2 rfl rfl)
theorem dX6_back_100 : decode cX6_back 100 = .ok (.aload_n 0, 1) := dk_42 (dk_at dksX6_back_4 5 rfl rfl)
theorem dX6_back_101 : decode cX6_back 101 = .ok (.getfield 229, 3) := dk_180 0 229 (dk_at dksX6_back_4 6 rfl rfl)
theorem dX6_back_104 : decode cX6_back 104 = .ok (.ireturn, 1) := dk_172 (dk_at dksX6_back_4 9 rfl rfl)
abbrev cX6_size : ByteArray := prog_20_method_122_code
def yX6_size : MethodName := ⟨RX6, "size", "(I)I"⟩
def dkwX6_size_4 : List UInt8 := [172]
abbrev dktX6_size_4 : List UInt8 := dkwX6_size_4 ++ []
def dkwX6_size_3 : List UInt8 := [172, 42, 180, 0, 232, 172, 42, 180, 0, 20, 3, 46, 172, 42, 180, 0, 246, 172, 42, 180, 0, 249, 172, 2]
abbrev dktX6_size_3 : List UInt8 := dkwX6_size_3 ++ dktX6_size_4
def dkwX6_size_2 : List UInt8 := [42, 180, 0, 217, 172, 42, 180, 0, 220, 172, 42, 180, 0, 223, 172, 42, 180, 0, 226, 172, 42, 180, 0, 229]
abbrev dktX6_size_2 : List UInt8 := dkwX6_size_2 ++ dktX6_size_3
def dkwX6_size_1 : List UInt8 := [170, 0, 0, 0, 0, 97, 0, 0, 0, 0, 0, 0, 0, 8, 0, 0, 0, 50, 0, 0, 0, 55, 0, 0, 0, 60, 0, 0, 0, 65, 0, 0, 0, 70, 0, 0, 0, 75, 0, 0, 0, 80, 0, 0, 0, 87, 0, 0, 0, 92]
abbrev dktX6_size_1 : List UInt8 := dkwX6_size_1 ++ dktX6_size_2
def dkwX6_size_0 : List UInt8 := [42, 3, 181, 0, 119, 27]
abbrev dktX6_size_0 : List UInt8 := dkwX6_size_0 ++ dktX6_size_1
theorem dksX6_size_0 : cX6_size.data.toList.drop 0 = dktX6_size_0 := by decide +kernel
theorem dksX6_size_1 : cX6_size.data.toList.drop 6 = dktX6_size_1 := dk_seg dksX6_size_0 6 rfl rfl
theorem dksX6_size_2 : cX6_size.data.toList.drop 56 = dktX6_size_2 := dk_seg dksX6_size_1 50 rfl rfl
theorem dksX6_size_3 : cX6_size.data.toList.drop 80 = dktX6_size_3 := dk_seg dksX6_size_2 24 rfl rfl
theorem dksX6_size_4 : cX6_size.data.toList.drop 104 = dktX6_size_4 := dk_seg dksX6_size_3 24 rfl rfl
theorem dX6_size_0 : decode cX6_size 0 = .ok (.aload_n 0, 1) := dk_42 (dk_at dksX6_size_0 0 rfl rfl)
theorem dX6_size_1 : decode cX6_size 1 = .ok (.iconst 0, 1) := dk_3 (dk_at dksX6_size_0 1 rfl rfl)
theorem dX6_size_2 : decode cX6_size 2 = .ok (.putfield 119, 3) := dk_181 0 119 (dk_at dksX6_size_0 2 rfl rfl)
theorem dX6_size_5 : decode cX6_size 5 = .ok (.iload_n 1, 1) := dk_27 (dk_at dksX6_size_0 5 rfl rfl)
theorem dX6_size_6 : decode cX6_size 6 = .ok (.tableswitch 97 0 8 #[50, 55, 60, 65, 70, 75, 80, 87, 92], 50) := by decide +kernel
theorem dX6_size_56 : decode cX6_size 56 = .ok (.aload_n 0, 1) := dk_42 (dk_at dksX6_size_2 0 rfl rfl)
theorem dX6_size_57 : decode cX6_size 57 = .ok (.getfield 217, 3) := dk_180 0 217 (dk_at dksX6_size_2 1 rfl rfl)
theorem dX6_size_60 : decode cX6_size 60 = .ok (.ireturn, 1) := dk_172 (dk_at dksX6_size_2 4 rfl rfl)
theorem dX6_size_61 : decode cX6_size 61 = .ok (.aload_n 0, 1) := dk_42 (dk_at dksX6_size_2 5 rfl rfl)
theorem dX6_size_62 : decode cX6_size 62 = .ok (.getfield 220, 3) := dk_180 0 220 (dk_at dksX6_size_2 6 rfl rfl)
theorem dX6_size_65 : decode cX6_size 65 = .ok (.ireturn, 1) := dk_172 (dk_at dksX6_size_2 9 rfl rfl)
theorem dX6_size_66 : decode cX6_size 66 = .ok (.aload_n 0, 1) := dk_42 (dk_at dksX6_size_2 10 rfl rfl)
theorem dX6_size_67 : decode cX6_size 67 = .ok (.getfield 223, 3) := dk_180 0 223 (dk_at dksX6_size_2 11 rfl rfl)
theorem dX6_size_70 : decode cX6_size 70 = .ok (.ireturn, 1) := dk_172 (dk_at dksX6_size_2 14 rfl rfl)
theorem dX6_size_71 : decode cX6_size 71 = .ok (.aload_n 0, 1) := dk_42 (dk_at dksX6_size_2 15 rfl rfl)
theorem dX6_size_72 : decode cX6_size 72 = .ok (.getfield 226, 3) := dk_180 0 226 (dk_at dksX6_size_2 16 rfl rfl)
theorem dX6_size_75 : decode cX6_size 75 = .ok (.ireturn, 1) := dk_172 (dk_at dksX6_size_2 19 rfl rfl)
theorem dX6_size_76 : decode cX6_size 76 = .ok (.aload_n 0, 1) := dk_42 (dk_at dksX6_size_2 20 rfl rfl)
theorem dX6_size_77 : decode cX6_size 77 = .ok (.getfield 229, 3) := dk_180 0 229 (dk_at dksX6_size_2 21 rfl rfl)
theorem dX6_size_80 : decode cX6_size 80 = .ok (.ireturn, 1) := dk_172 (dk_at dksX6_size_3 0 rfl rfl)
theorem dX6_size_81 : decode cX6_size 81 = .ok (.aload_n 0, 1) := dk_42 (dk_at dksX6_size_3 1 rfl rfl)
theorem dX6_size_82 : decode cX6_size 82 = .ok (.getfield 232, 3) := dk_180 0 232 (dk_at dksX6_size_3 2 rfl rfl)
theorem dX6_size_85 : decode cX6_size 85 = .ok (.ireturn, 1) := dk_172 (dk_at dksX6_size_3 5 rfl rfl)
theorem dX6_size_86 : decode cX6_size 86 = .ok (.aload_n 0, 1) := dk_42 (dk_at dksX6_size_3 6 rfl rfl)
theorem dX6_size_87 : decode cX6_size 87 = .ok (.getfield 20, 3) := dk_180 0 20 (dk_at dksX6_size_3 7 rfl rfl)
theorem dX6_size_90 : decode cX6_size 90 = .ok (.iconst 0, 1) := dk_3 (dk_at dksX6_size_3 10 rfl rfl)
theorem dX6_size_91 : decode cX6_size 91 = .ok (.iaload, 1) := dk_46 (dk_at dksX6_size_3 11 rfl rfl)
theorem dX6_size_92 : decode cX6_size 92 = .ok (.ireturn, 1) := dk_172 (dk_at dksX6_size_3 12 rfl rfl)
theorem dX6_size_93 : decode cX6_size 93 = .ok (.aload_n 0, 1) := dk_42 (dk_at dksX6_size_3 13 rfl rfl)
theorem dX6_size_94 : decode cX6_size 94 = .ok (.getfield 246, 3) := dk_180 0 246 (dk_at dksX6_size_3 14 rfl rfl)
theorem dX6_size_97 : decode cX6_size 97 = .ok (.ireturn, 1) := dk_172 (dk_at dksX6_size_3 17 rfl rfl)
theorem dX6_size_98 : decode cX6_size 98 = .ok (.aload_n 0, 1) := dk_42 (dk_at dksX6_size_3 18 rfl rfl)
theorem dX6_size_99 : decode cX6_size 99 = .ok (.getfield 249, 3) := dk_180 0 249 (dk_at dksX6_size_3 19 rfl rfl)
theorem dX6_size_102 : decode cX6_size 102 = .ok (.ireturn, 1) := dk_172 (dk_at dksX6_size_3 22 rfl rfl)
theorem dX6_size_103 : decode cX6_size 103 = .ok (.iconst (-1), 1) := dk_2 (dk_at dksX6_size_3 23 rfl rfl)
theorem dX6_size_104 : decode cX6_size 104 = .ok (.ireturn, 1) := dk_172 (dk_at dksX6_size_4 0 rfl rfl)
