-- L.law.lean.txt
/-! the law's own entry -/
set_option maxRecDepth 100000
abbrev cL_law : ByteArray := code
def dkwL_law_84 : List UInt8 := [167, 247, 223, 4, 172]
abbrev dktL_law_84 : List UInt8 := dkwL_law_84 ++ []
def dkwL_law_83 : List UInt8 := [159, 0, 19, 3, 172, 43, 182, 1, 9, 44, 182, 1, 13, 148, 153, 0, 5, 3, 172, 132, 4, 5]
abbrev dktL_law_83 : List UInt8 := dkwL_law_83 ++ dktL_law_84
def dkwL_law_82 : List UInt8 := [167, 0, 43, 43, 182, 1, 0, 44, 182, 1, 3, 159, 0, 32, 3, 172, 43, 182, 1, 4, 44, 182, 1, 8]
abbrev dktL_law_82 : List UInt8 := dkwL_law_82 ++ dktL_law_83
def dkwL_law_81 : List UInt8 := [159, 0, 5, 3, 172, 21, 5, 154, 0, 16, 45, 180, 0, 13, 21, 6, 133, 148, 153, 0, 5, 3, 172]
abbrev dktL_law_81 : List UInt8 := dkwL_law_81 ++ dktL_law_82
def dkwL_law_80 : List UInt8 := [184, 0, 253, 54, 5, 44, 42, 21, 4, 4, 96, 46, 182, 0, 255, 54, 6, 44, 182, 0, 123, 21, 5]
abbrev dktL_law_80 : List UInt8 := dkwL_law_80 ++ dktL_law_81
def dkwL_law_79 : List UInt8 := [45, 180, 0, 13, 21, 6, 133, 148, 153, 0, 5, 3, 172, 167, 0, 100, 43, 42, 21, 4, 4, 96, 46, 45]
abbrev dktL_law_79 : List UInt8 := dkwL_law_79 ++ dktL_law_80
def dkwL_law_78 : List UInt8 := [5, 96, 46, 182, 0, 252, 54, 6, 44, 182, 0, 123, 21, 5, 159, 0, 5, 3, 172, 21, 5, 154, 0, 16]
abbrev dktL_law_78 : List UInt8 := dkwL_law_78 ++ dktL_law_79
def dkwL_law_77 : List UInt8 := [96, 46, 42, 21, 4, 5, 96, 46, 45, 184, 0, 250, 54, 5, 44, 42, 21, 4, 4, 96, 46, 42, 21, 4]
abbrev dktL_law_77 : List UInt8 := dkwL_law_77 ++ dktL_law_78
def dkwL_law_76 : List UInt8 := [154, 0, 16, 45, 180, 0, 13, 21, 6, 133, 148, 153, 0, 5, 3, 172, 167, 0, 169, 43, 42, 21, 4, 4]
abbrev dktL_law_76 : List UInt8 := dkwL_law_76 ++ dktL_law_77
def dkwL_law_75 : List UInt8 := [42, 21, 4, 5, 96, 46, 182, 0, 249, 54, 6, 44, 182, 0, 123, 21, 5, 159, 0, 5, 3, 172, 21, 5]
abbrev dktL_law_75 : List UInt8 := dkwL_law_75 ++ dktL_law_76
def dkwL_law_74 : List UInt8 := [21, 4, 4, 96, 46, 42, 21, 4, 5, 96, 46, 45, 184, 0, 247, 54, 5, 44, 42, 21, 4, 4, 96, 46]
abbrev dktL_law_74 : List UInt8 := dkwL_law_74 ++ dktL_law_75
def dkwL_law_73 : List UInt8 := [182, 0, 242, 159, 0, 253, 3, 172, 43, 182, 0, 243, 44, 182, 0, 246, 159, 0, 240, 3, 172, 43, 42]
abbrev dktL_law_73 : List UInt8 := dkwL_law_73 ++ dktL_law_74
def dkwL_law_72 : List UInt8 := [154, 0, 16, 45, 180, 0, 13, 21, 6, 133, 148, 153, 0, 5, 3, 172, 167, 1, 8, 43, 182, 0, 239, 44]
abbrev dktL_law_72 : List UInt8 := dkwL_law_72 ++ dktL_law_73
def dkwL_law_71 : List UInt8 := [21, 4, 4, 96, 46, 182, 0, 238, 54, 6, 44, 182, 0, 123, 21, 5, 159, 0, 5, 3, 172, 21, 5]
abbrev dktL_law_71 : List UInt8 := dkwL_law_71 ++ dktL_law_72
def dkwL_law_70 : List UInt8 := [182, 0, 235, 159, 1, 67, 3, 172, 43, 42, 21, 4, 4, 96, 46, 45, 184, 0, 236, 54, 5, 44, 42]
abbrev dktL_law_70 : List UInt8 := dkwL_law_70 ++ dktL_law_71
def dkwL_law_69 : List UInt8 := [154, 0, 16, 45, 180, 0, 13, 21, 6, 133, 148, 153, 0, 5, 3, 172, 167, 1, 78, 43, 182, 0, 232, 44]
abbrev dktL_law_69 : List UInt8 := dkwL_law_69 ++ dktL_law_70
def dkwL_law_68 : List UInt8 := [21, 4, 4, 96, 46, 182, 0, 231, 54, 6, 44, 182, 0, 123, 21, 5, 159, 0, 5, 3, 172, 21, 5]
abbrev dktL_law_68 : List UInt8 := dkwL_law_68 ++ dktL_law_69
def dkwL_law_67 : List UInt8 := [182, 0, 228, 159, 1, 137, 3, 172, 43, 42, 21, 4, 4, 96, 46, 45, 184, 0, 229, 54, 5, 44, 42]
abbrev dktL_law_67 : List UInt8 := dkwL_law_67 ++ dktL_law_68
def dkwL_law_66 : List UInt8 := [154, 0, 16, 45, 180, 0, 13, 21, 6, 133, 148, 153, 0, 5, 3, 172, 167, 1, 148, 43, 182, 0, 225, 44]
abbrev dktL_law_66 : List UInt8 := dkwL_law_66 ++ dktL_law_67
def dkwL_law_65 : List UInt8 := [21, 4, 4, 96, 46, 182, 0, 224, 54, 6, 44, 182, 0, 123, 21, 5, 159, 0, 5, 3, 172, 21, 5]
abbrev dktL_law_65 : List UInt8 := dkwL_law_65 ++ dktL_law_66
def dkwL_law_64 : List UInt8 := [153, 0, 5, 3, 172, 167, 1, 205, 43, 42, 21, 4, 4, 96, 46, 45, 184, 0, 222, 54, 5, 44, 42]
abbrev dktL_law_64 : List UInt8 := dkwL_law_64 ++ dktL_law_65
def dkwL_law_63 : List UInt8 := [182, 0, 123, 21, 5, 159, 0, 5, 3, 172, 21, 5, 154, 0, 16, 45, 180, 0, 13, 21, 6, 133, 148]
abbrev dktL_law_63 : List UInt8 := dkwL_law_63 ++ dktL_law_64
def dkwL_law_62 : List UInt8 := [21, 4, 4, 96, 46, 45, 184, 0, 219, 54, 5, 44, 42, 21, 4, 4, 96, 46, 182, 0, 221, 54, 6, 44]
abbrev dktL_law_62 : List UInt8 := dkwL_law_62 ++ dktL_law_63
def dkwL_law_61 : List UInt8 := [154, 0, 5, 3, 172, 167, 2, 19, 43, 182, 0, 215, 44, 182, 0, 218, 159, 2, 8, 3, 172, 43, 42]
abbrev dktL_law_61 : List UInt8 := dkwL_law_61 ++ dktL_law_62
def dkwL_law_60 : List UInt8 := [182, 0, 123, 21, 5, 159, 0, 5, 3, 172, 21, 5, 154, 0, 17, 45, 180, 0, 66, 25, 6, 182, 0, 179]
abbrev dktL_law_60 : List UInt8 := dkwL_law_60 ++ dktL_law_61
def dkwL_law_59 : List UInt8 := [184, 0, 212, 54, 5, 44, 42, 21, 4, 4, 96, 46, 42, 21, 4, 5, 96, 46, 182, 0, 214, 58, 6, 44]
abbrev dktL_law_59 : List UInt8 := dkwL_law_59 ++ dktL_law_60
def dkwL_law_58 : List UInt8 := [153, 0, 5, 3, 172, 167, 2, 89, 43, 42, 21, 4, 4, 96, 46, 42, 21, 4, 5, 96, 46, 45]
abbrev dktL_law_58 : List UInt8 := dkwL_law_58 ++ dktL_law_59
def dkwL_law_57 : List UInt8 := [44, 182, 0, 123, 21, 5, 159, 0, 5, 3, 172, 21, 5, 154, 0, 16, 45, 180, 0, 13, 21, 6, 133, 148]
abbrev dktL_law_57 : List UInt8 := dkwL_law_57 ++ dktL_law_58
def dkwL_law_56 : List UInt8 := [42, 21, 4, 4, 96, 46, 45, 184, 0, 209, 54, 5, 44, 42, 21, 4, 4, 96, 46, 182, 0, 211, 54, 6]
abbrev dktL_law_56 : List UInt8 := dkwL_law_56 ++ dktL_law_57
def dkwL_law_55 : List UInt8 := [172, 21, 5, 154, 0, 17, 45, 180, 0, 66, 25, 6, 182, 0, 179, 154, 0, 5, 3, 172, 167, 2, 146, 43]
abbrev dktL_law_55 : List UInt8 := dkwL_law_55 ++ dktL_law_56
def dkwL_law_54 : List UInt8 := [54, 5, 44, 42, 21, 4, 4, 96, 46, 182, 0, 208, 58, 6, 44, 182, 0, 123, 21, 5, 159, 0, 5, 3]
abbrev dktL_law_54 : List UInt8 := dkwL_law_54 ++ dktL_law_55
def dkwL_law_53 : List UInt8 := [182, 0, 202, 44, 182, 0, 205, 159, 2, 206, 3, 172, 43, 42, 21, 4, 4, 96, 46, 45, 184, 0, 206]
abbrev dktL_law_53 : List UInt8 := dkwL_law_53 ++ dktL_law_54
def dkwL_law_52 : List UInt8 := [45, 180, 0, 13, 21, 6, 153, 0, 7, 10, 167, 0, 4, 9, 148, 153, 0, 5, 3, 172, 167, 2, 217, 43]
abbrev dktL_law_52 : List UInt8 := dkwL_law_52 ++ dktL_law_53
def dkwL_law_51 : List UInt8 := [5, 96, 46, 182, 0, 201, 54, 6, 44, 182, 0, 123, 21, 5, 159, 0, 5, 3, 172, 21, 5, 154, 0, 23]
abbrev dktL_law_51 : List UInt8 := dkwL_law_51 ++ dktL_law_52
def dkwL_law_50 : List UInt8 := [96, 46, 42, 21, 4, 5, 96, 46, 45, 184, 0, 199, 54, 5, 44, 42, 21, 4, 4, 96, 46, 42, 21, 4]
abbrev dktL_law_50 : List UInt8 := dkwL_law_50 ++ dktL_law_51
def dkwL_law_49 : List UInt8 := [154, 0, 16, 45, 180, 0, 13, 21, 6, 133, 148, 153, 0, 5, 3, 172, 167, 3, 37, 43, 42, 21, 4, 4]
abbrev dktL_law_49 : List UInt8 := dkwL_law_49 ++ dktL_law_50
def dkwL_law_48 : List UInt8 := [21, 4, 4, 96, 46, 182, 0, 198, 54, 6, 44, 182, 0, 123, 21, 5, 159, 0, 5, 3, 172, 21, 5]
abbrev dktL_law_48 : List UInt8 := dkwL_law_48 ++ dktL_law_49
def dkwL_law_47 : List UInt8 := [182, 0, 195, 159, 3, 96, 3, 172, 43, 42, 21, 4, 4, 96, 46, 45, 184, 0, 196, 54, 5, 44, 42]
abbrev dktL_law_47 : List UInt8 := dkwL_law_47 ++ dktL_law_48
def dkwL_law_46 : List UInt8 := [153, 0, 7, 10, 167, 0, 4, 9, 148, 153, 0, 5, 3, 172, 167, 3, 107, 43, 182, 0, 192, 44]
abbrev dktL_law_46 : List UInt8 := dkwL_law_46 ++ dktL_law_47
def dkwL_law_45 : List UInt8 := [54, 6, 44, 182, 0, 123, 21, 5, 159, 0, 5, 3, 172, 21, 5, 154, 0, 23, 45, 180, 0, 13, 21, 6]
abbrev dktL_law_45 : List UInt8 := dkwL_law_45 ++ dktL_law_46
def dkwL_law_44 : List UInt8 := [42, 21, 4, 4, 96, 46, 42, 21, 4, 5, 96, 46, 153, 0, 7, 4, 167, 0, 4, 3, 182, 0, 191]
abbrev dktL_law_44 : List UInt8 := dkwL_law_44 ++ dktL_law_45
def dkwL_law_43 : List UInt8 := [4, 96, 46, 42, 21, 4, 5, 96, 46, 153, 0, 7, 4, 167, 0, 4, 3, 45, 184, 0, 188, 54, 5, 44]
abbrev dktL_law_43 : List UInt8 := dkwL_law_43 ++ dktL_law_44
def dkwL_law_42 : List UInt8 := [154, 0, 17, 45, 180, 0, 66, 25, 6, 182, 0, 179, 154, 0, 5, 3, 172, 167, 3, 199, 43, 42, 21, 4]
abbrev dktL_law_42 : List UInt8 := dkwL_law_42 ++ dktL_law_43
def dkwL_law_41 : List UInt8 := [21, 4, 4, 96, 46, 182, 0, 187, 58, 6, 44, 182, 0, 123, 21, 5, 159, 0, 5, 3, 172, 21, 5]
abbrev dktL_law_41 : List UInt8 := dkwL_law_41 ++ dktL_law_42
def dkwL_law_40 : List UInt8 := [182, 0, 179, 154, 4, 3, 3, 172, 43, 42, 21, 4, 4, 96, 46, 45, 184, 0, 185, 54, 5, 44, 42]
abbrev dktL_law_40 : List UInt8 := dkwL_law_40 ++ dktL_law_41
def dkwL_law_39 : List UInt8 := [180, 0, 13, 21, 6, 133, 148, 153, 0, 5, 3, 172, 167, 4, 17, 43, 182, 0, 174, 44, 182, 0, 178]
abbrev dktL_law_39 : List UInt8 := dkwL_law_39 ++ dktL_law_40
def dkwL_law_38 : List UInt8 := [182, 0, 173, 54, 6, 44, 182, 0, 123, 21, 5, 159, 0, 5, 3, 172, 21, 5, 154, 0, 16, 45]
abbrev dktL_law_38 : List UInt8 := dkwL_law_38 ++ dktL_law_39
def dkwL_law_37 : List UInt8 := [167, 4, 74, 43, 42, 21, 4, 4, 96, 46, 45, 184, 0, 171, 54, 5, 44, 42, 21, 4, 4, 96, 46]
abbrev dktL_law_37 : List UInt8 := dkwL_law_37 ++ dktL_law_38
def dkwL_law_36 : List UInt8 := [159, 0, 5, 3, 172, 21, 5, 154, 0, 16, 45, 180, 0, 13, 21, 6, 133, 148, 153, 0, 5, 3, 172]
abbrev dktL_law_36 : List UInt8 := dkwL_law_36 ++ dktL_law_37
def dkwL_law_35 : List UInt8 := [42, 21, 4, 5, 96, 46, 42, 21, 4, 6, 96, 46, 182, 0, 170, 54, 6, 44, 182, 0, 123, 21, 5]
abbrev dktL_law_35 : List UInt8 := dkwL_law_35 ++ dktL_law_36
def dkwL_law_34 : List UInt8 := [21, 4, 5, 96, 46, 42, 21, 4, 6, 96, 46, 45, 184, 0, 167, 54, 5, 44, 42, 21, 4, 4, 96, 46]
abbrev dktL_law_34 : List UInt8 := dkwL_law_34 ++ dktL_law_35
def dkwL_law_33 : List UInt8 := [180, 0, 13, 21, 6, 133, 148, 153, 0, 5, 3, 172, 167, 4, 155, 43, 42, 21, 4, 4, 96, 46, 42]
abbrev dktL_law_33 : List UInt8 := dkwL_law_33 ++ dktL_law_34
def dkwL_law_32 : List UInt8 := [182, 0, 166, 54, 6, 44, 182, 0, 123, 21, 5, 159, 0, 5, 3, 172, 21, 5, 154, 0, 16, 45]
abbrev dktL_law_32 : List UInt8 := dkwL_law_32 ++ dktL_law_33
def dkwL_law_31 : List UInt8 := [167, 4, 212, 43, 42, 21, 4, 4, 96, 46, 45, 184, 0, 164, 54, 5, 44, 42, 21, 4, 4, 96, 46]
abbrev dktL_law_31 : List UInt8 := dkwL_law_31 ++ dktL_law_32
def dkwL_law_30 : List UInt8 := [159, 0, 5, 3, 172, 21, 5, 154, 0, 16, 45, 180, 0, 13, 21, 6, 133, 148, 153, 0, 5, 3, 172]
abbrev dktL_law_30 : List UInt8 := dkwL_law_30 ++ dktL_law_31
def dkwL_law_29 : List UInt8 := [184, 0, 161, 54, 5, 44, 42, 21, 4, 4, 96, 46, 182, 0, 163, 54, 6, 44, 182, 0, 123, 21, 5]
abbrev dktL_law_29 : List UInt8 := dkwL_law_29 ++ dktL_law_30
def dkwL_law_28 : List UInt8 := [180, 0, 13, 21, 6, 133, 148, 153, 0, 5, 3, 172, 167, 5, 13, 43, 42, 21, 4, 4, 96, 46, 45]
abbrev dktL_law_28 : List UInt8 := dkwL_law_28 ++ dktL_law_29
def dkwL_law_27 : List UInt8 := [182, 0, 160, 54, 6, 44, 182, 0, 123, 21, 5, 159, 0, 5, 3, 172, 21, 5, 154, 0, 16, 45]
abbrev dktL_law_27 : List UInt8 := dkwL_law_27 ++ dktL_law_28
def dkwL_law_26 : List UInt8 := [167, 5, 70, 43, 42, 21, 4, 4, 96, 46, 45, 184, 0, 158, 54, 5, 44, 42, 21, 4, 4, 96, 46]
abbrev dktL_law_26 : List UInt8 := dkwL_law_26 ++ dktL_law_27
def dkwL_law_25 : List UInt8 := [159, 0, 5, 3, 172, 21, 5, 154, 0, 16, 45, 180, 0, 13, 21, 6, 133, 148, 153, 0, 5, 3, 172]
abbrev dktL_law_25 : List UInt8 := dkwL_law_25 ++ dktL_law_26
def dkwL_law_24 : List UInt8 := [184, 0, 155, 54, 5, 44, 42, 21, 4, 4, 96, 46, 182, 0, 157, 54, 6, 44, 182, 0, 123, 21, 5]
abbrev dktL_law_24 : List UInt8 := dkwL_law_24 ++ dktL_law_25
def dkwL_law_23 : List UInt8 := [180, 0, 13, 21, 6, 133, 148, 153, 0, 5, 3, 172, 167, 5, 127, 43, 42, 21, 4, 4, 96, 46, 45]
abbrev dktL_law_23 : List UInt8 := dkwL_law_23 ++ dktL_law_24
def dkwL_law_22 : List UInt8 := [182, 0, 154, 54, 6, 44, 182, 0, 123, 21, 5, 159, 0, 5, 3, 172, 21, 5, 154, 0, 16, 45]
abbrev dktL_law_22 : List UInt8 := dkwL_law_22 ++ dktL_law_23
def dkwL_law_21 : List UInt8 := [167, 5, 184, 43, 42, 21, 4, 4, 96, 46, 45, 184, 0, 152, 54, 5, 44, 42, 21, 4, 4, 96, 46]
abbrev dktL_law_21 : List UInt8 := dkwL_law_21 ++ dktL_law_22
def dkwL_law_20 : List UInt8 := [159, 0, 5, 3, 172, 21, 5, 154, 0, 16, 45, 180, 0, 13, 21, 6, 133, 148, 153, 0, 5, 3, 172]
abbrev dktL_law_20 : List UInt8 := dkwL_law_20 ++ dktL_law_21
def dkwL_law_19 : List UInt8 := [184, 0, 149, 54, 5, 44, 42, 21, 4, 4, 96, 46, 182, 0, 151, 54, 6, 44, 182, 0, 123, 21, 5]
abbrev dktL_law_19 : List UInt8 := dkwL_law_19 ++ dktL_law_20
def dkwL_law_18 : List UInt8 := [45, 180, 0, 13, 21, 6, 133, 148, 153, 0, 5, 3, 172, 167, 5, 241, 43, 42, 21, 4, 4, 96, 46, 45]
abbrev dktL_law_18 : List UInt8 := dkwL_law_18 ++ dktL_law_19
def dkwL_law_17 : List UInt8 := [5, 96, 46, 182, 0, 148, 54, 6, 44, 182, 0, 123, 21, 5, 159, 0, 5, 3, 172, 21, 5, 154, 0, 16]
abbrev dktL_law_17 : List UInt8 := dkwL_law_17 ++ dktL_law_18
def dkwL_law_16 : List UInt8 := [96, 46, 42, 21, 4, 5, 96, 46, 45, 184, 0, 146, 54, 5, 44, 42, 21, 4, 4, 96, 46, 42, 21, 4]
abbrev dktL_law_16 : List UInt8 := dkwL_law_16 ++ dktL_law_17
def dkwL_law_15 : List UInt8 := [154, 0, 16, 45, 180, 0, 13, 21, 6, 133, 148, 153, 0, 5, 3, 172, 167, 6, 54, 43, 42, 21, 4, 4]
abbrev dktL_law_15 : List UInt8 := dkwL_law_15 ++ dktL_law_16
def dkwL_law_14 : List UInt8 := [42, 21, 4, 5, 96, 46, 182, 0, 145, 54, 6, 44, 182, 0, 123, 21, 5, 159, 0, 5, 3, 172, 21, 5]
abbrev dktL_law_14 : List UInt8 := dkwL_law_14 ++ dktL_law_15
def dkwL_law_13 : List UInt8 := [21, 4, 4, 96, 46, 42, 21, 4, 5, 96, 46, 45, 184, 0, 142, 54, 5, 44, 42, 21, 4, 4, 96, 46]
abbrev dktL_law_13 : List UInt8 := dkwL_law_13 ++ dktL_law_14
def dkwL_law_12 : List UInt8 := [153, 0, 5, 3, 172, 167, 6, 136, 43, 182, 0, 138, 44, 182, 0, 141, 159, 6, 125, 3, 172, 43, 42]
abbrev dktL_law_12 : List UInt8 := dkwL_law_12 ++ dktL_law_13
def dkwL_law_11 : List UInt8 := [182, 0, 123, 21, 5, 159, 0, 5, 3, 172, 21, 5, 154, 0, 16, 45, 180, 0, 13, 21, 6, 133, 148]
abbrev dktL_law_11 : List UInt8 := dkwL_law_11 ++ dktL_law_12
def dkwL_law_10 : List UInt8 := [21, 4, 4, 96, 46, 45, 184, 0, 135, 54, 5, 44, 42, 21, 4, 4, 96, 46, 182, 0, 137, 54, 6, 44]
abbrev dktL_law_10 : List UInt8 := dkwL_law_10 ++ dktL_law_11
def dkwL_law_9 : List UInt8 := [21, 5, 154, 0, 16, 45, 180, 0, 13, 21, 6, 133, 148, 153, 0, 5, 3, 172, 167, 6, 193, 43, 42]
abbrev dktL_law_9 : List UInt8 := dkwL_law_9 ++ dktL_law_10
def dkwL_law_8 : List UInt8 := [46, 42, 21, 4, 7, 96, 46, 182, 0, 134, 54, 6, 44, 182, 0, 123, 21, 5, 159, 0, 5, 3, 172]
abbrev dktL_law_8 : List UInt8 := dkwL_law_8 ++ dktL_law_9
def dkwL_law_7 : List UInt8 := [45, 184, 0, 131, 54, 5, 44, 42, 21, 4, 4, 96, 46, 42, 21, 4, 5, 96, 46, 42, 21, 4, 6, 96]
abbrev dktL_law_7 : List UInt8 := dkwL_law_7 ++ dktL_law_8
def dkwL_law_6 : List UInt8 := [42, 21, 4, 4, 96, 46, 42, 21, 4, 5, 96, 46, 42, 21, 4, 6, 96, 46, 42, 21, 4, 7, 96, 46]
abbrev dktL_law_6 : List UInt8 := dkwL_law_6 ++ dktL_law_7
def dkwL_law_5 : List UInt8 := [133, 148, 153, 0, 5, 3, 172, 167, 7, 43, 43, 182, 0, 127, 44, 182, 0, 130, 159, 7, 32, 3, 172, 43]
abbrev dktL_law_5 : List UInt8 := dkwL_law_5 ++ dktL_law_6
def dkwL_law_4 : List UInt8 := [54, 6, 44, 182, 0, 123, 21, 5, 159, 0, 5, 3, 172, 21, 5, 154, 0, 16, 45, 180, 0, 13, 21, 6]
abbrev dktL_law_4 : List UInt8 := dkwL_law_4 ++ dktL_law_5
def dkwL_law_3 : List UInt8 := [43, 42, 21, 4, 4, 96, 46, 45, 184, 0, 117, 54, 5, 44, 42, 21, 4, 4, 96, 46, 182, 0, 122]
abbrev dktL_law_3 : List UInt8 := dkwL_law_3 ++ dktL_law_4
def dkwL_law_2 : List UInt8 := [170, 0, 0, 8, 14, 0, 0, 0, 0, 0, 0, 0, 39, 0, 0, 0, 173, 0, 0, 0, 230, 0, 0, 0, 243, 0, 0, 1, 80, 0, 0, 1, 137, 0, 0, 1, 150, 0, 0, 1, 219, 0, 0, 2, 32, 0, 0, 2, 89, 0, 0, 2, 146, 0, 0, 2, 203, 0, 0, 3, 4, 0, 0, 3, 61, 0, 0, 3, 118, 0, 0, 3, 199, 0, 0, 4, 0, 0, 0, 4, 16, 0, 0, 4, 74, 0, 0, 4, 166, 0, 0, 4, 179, 0, 0, 4, 236, 0, 0, 5, 56, 0, 0, 5, 69, 0, 0, 5, 127, 0, 0, 5, 184, 0, 0, 5, 254, 0, 0, 6, 11, 0, 0, 6, 68, 0, 0, 6, 125, 0, 0, 6, 138, 0, 0, 6, 195, 0, 0, 6, 208, 0, 0, 7, 9, 0, 0, 7, 22, 0, 0, 7, 35, 0, 0, 7, 104, 0, 0, 7, 173, 0, 0, 7, 230, 0, 0, 7, 243, 0, 0, 8, 0]
abbrev dktL_law_2 : List UInt8 := dkwL_law_2 ++ dktL_law_3
def dkwL_law_1 : List UInt8 := [3, 54, 4, 21, 4, 42, 190, 8, 100, 163, 8, 30, 42, 21, 4, 46, 16, 63, 126]
abbrev dktL_law_1 : List UInt8 := dkwL_law_1 ++ dktL_law_2
def dkwL_law_0 : List UInt8 := [187, 0, 8, 89, 183, 0, 112, 76, 187, 0, 113, 89, 183, 0, 115, 77, 187, 0, 14, 89, 183, 0, 116, 78]
abbrev dktL_law_0 : List UInt8 := dkwL_law_0 ++ dktL_law_1
theorem dksL_law_0 : cL_law.data.toList.drop 0 = dktL_law_0 := by decide +kernel
theorem dksL_law_1 : cL_law.data.toList.drop 24 = dktL_law_1 := dk_seg dksL_law_0 24 rfl rfl
theorem dksL_law_2 : cL_law.data.toList.drop 43 = dktL_law_2 := dk_seg dksL_law_1 19 rfl rfl
theorem dksL_law_3 : cL_law.data.toList.drop 216 = dktL_law_3 := dk_seg dksL_law_2 173 rfl rfl
theorem dksL_law_4 : cL_law.data.toList.drop 239 = dktL_law_4 := dk_seg dksL_law_3 23 rfl rfl
theorem dksL_law_5 : cL_law.data.toList.drop 263 = dktL_law_5 := dk_seg dksL_law_4 24 rfl rfl
theorem dksL_law_6 : cL_law.data.toList.drop 287 = dktL_law_6 := dk_seg dksL_law_5 24 rfl rfl
theorem dksL_law_7 : cL_law.data.toList.drop 311 = dktL_law_7 := dk_seg dksL_law_6 24 rfl rfl
theorem dksL_law_8 : cL_law.data.toList.drop 335 = dktL_law_8 := dk_seg dksL_law_7 24 rfl rfl
theorem dksL_law_9 : cL_law.data.toList.drop 358 = dktL_law_9 := dk_seg dksL_law_8 23 rfl rfl
theorem dksL_law_10 : cL_law.data.toList.drop 381 = dktL_law_10 := dk_seg dksL_law_9 23 rfl rfl
theorem dksL_law_11 : cL_law.data.toList.drop 405 = dktL_law_11 := dk_seg dksL_law_10 24 rfl rfl
theorem dksL_law_12 : cL_law.data.toList.drop 428 = dktL_law_12 := dk_seg dksL_law_11 23 rfl rfl
theorem dksL_law_13 : cL_law.data.toList.drop 451 = dktL_law_13 := dk_seg dksL_law_12 23 rfl rfl
theorem dksL_law_14 : cL_law.data.toList.drop 475 = dktL_law_14 := dk_seg dksL_law_13 24 rfl rfl
theorem dksL_law_15 : cL_law.data.toList.drop 499 = dktL_law_15 := dk_seg dksL_law_14 24 rfl rfl
theorem dksL_law_16 : cL_law.data.toList.drop 523 = dktL_law_16 := dk_seg dksL_law_15 24 rfl rfl
theorem dksL_law_17 : cL_law.data.toList.drop 547 = dktL_law_17 := dk_seg dksL_law_16 24 rfl rfl
theorem dksL_law_18 : cL_law.data.toList.drop 571 = dktL_law_18 := dk_seg dksL_law_17 24 rfl rfl
theorem dksL_law_19 : cL_law.data.toList.drop 595 = dktL_law_19 := dk_seg dksL_law_18 24 rfl rfl
theorem dksL_law_20 : cL_law.data.toList.drop 618 = dktL_law_20 := dk_seg dksL_law_19 23 rfl rfl
theorem dksL_law_21 : cL_law.data.toList.drop 641 = dktL_law_21 := dk_seg dksL_law_20 23 rfl rfl
theorem dksL_law_22 : cL_law.data.toList.drop 664 = dktL_law_22 := dk_seg dksL_law_21 23 rfl rfl
theorem dksL_law_23 : cL_law.data.toList.drop 686 = dktL_law_23 := dk_seg dksL_law_22 22 rfl rfl
theorem dksL_law_24 : cL_law.data.toList.drop 709 = dktL_law_24 := dk_seg dksL_law_23 23 rfl rfl
theorem dksL_law_25 : cL_law.data.toList.drop 732 = dktL_law_25 := dk_seg dksL_law_24 23 rfl rfl
theorem dksL_law_26 : cL_law.data.toList.drop 755 = dktL_law_26 := dk_seg dksL_law_25 23 rfl rfl
theorem dksL_law_27 : cL_law.data.toList.drop 778 = dktL_law_27 := dk_seg dksL_law_26 23 rfl rfl
theorem dksL_law_28 : cL_law.data.toList.drop 800 = dktL_law_28 := dk_seg dksL_law_27 22 rfl rfl
theorem dksL_law_29 : cL_law.data.toList.drop 823 = dktL_law_29 := dk_seg dksL_law_28 23 rfl rfl
theorem dksL_law_30 : cL_law.data.toList.drop 846 = dktL_law_30 := dk_seg dksL_law_29 23 rfl rfl
theorem dksL_law_31 : cL_law.data.toList.drop 869 = dktL_law_31 := dk_seg dksL_law_30 23 rfl rfl
theorem dksL_law_32 : cL_law.data.toList.drop 892 = dktL_law_32 := dk_seg dksL_law_31 23 rfl rfl
theorem dksL_law_33 : cL_law.data.toList.drop 914 = dktL_law_33 := dk_seg dksL_law_32 22 rfl rfl
theorem dksL_law_34 : cL_law.data.toList.drop 937 = dktL_law_34 := dk_seg dksL_law_33 23 rfl rfl
theorem dksL_law_35 : cL_law.data.toList.drop 961 = dktL_law_35 := dk_seg dksL_law_34 24 rfl rfl
theorem dksL_law_36 : cL_law.data.toList.drop 984 = dktL_law_36 := dk_seg dksL_law_35 23 rfl rfl
theorem dksL_law_37 : cL_law.data.toList.drop 1007 = dktL_law_37 := dk_seg dksL_law_36 23 rfl rfl
theorem dksL_law_38 : cL_law.data.toList.drop 1030 = dktL_law_38 := dk_seg dksL_law_37 23 rfl rfl
theorem dksL_law_39 : cL_law.data.toList.drop 1052 = dktL_law_39 := dk_seg dksL_law_38 22 rfl rfl
theorem dksL_law_40 : cL_law.data.toList.drop 1075 = dktL_law_40 := dk_seg dksL_law_39 23 rfl rfl
theorem dksL_law_41 : cL_law.data.toList.drop 1098 = dktL_law_41 := dk_seg dksL_law_40 23 rfl rfl
theorem dksL_law_42 : cL_law.data.toList.drop 1121 = dktL_law_42 := dk_seg dksL_law_41 23 rfl rfl
theorem dksL_law_43 : cL_law.data.toList.drop 1145 = dktL_law_43 := dk_seg dksL_law_42 24 rfl rfl
theorem dksL_law_44 : cL_law.data.toList.drop 1169 = dktL_law_44 := dk_seg dksL_law_43 24 rfl rfl
theorem dksL_law_45 : cL_law.data.toList.drop 1192 = dktL_law_45 := dk_seg dksL_law_44 23 rfl rfl
theorem dksL_law_46 : cL_law.data.toList.drop 1216 = dktL_law_46 := dk_seg dksL_law_45 24 rfl rfl
theorem dksL_law_47 : cL_law.data.toList.drop 1238 = dktL_law_47 := dk_seg dksL_law_46 22 rfl rfl
theorem dksL_law_48 : cL_law.data.toList.drop 1261 = dktL_law_48 := dk_seg dksL_law_47 23 rfl rfl
theorem dksL_law_49 : cL_law.data.toList.drop 1284 = dktL_law_49 := dk_seg dksL_law_48 23 rfl rfl
theorem dksL_law_50 : cL_law.data.toList.drop 1308 = dktL_law_50 := dk_seg dksL_law_49 24 rfl rfl
theorem dksL_law_51 : cL_law.data.toList.drop 1332 = dktL_law_51 := dk_seg dksL_law_50 24 rfl rfl
theorem dksL_law_52 : cL_law.data.toList.drop 1356 = dktL_law_52 := dk_seg dksL_law_51 24 rfl rfl
theorem dksL_law_53 : cL_law.data.toList.drop 1380 = dktL_law_53 := dk_seg dksL_law_52 24 rfl rfl
theorem dksL_law_54 : cL_law.data.toList.drop 1403 = dktL_law_54 := dk_seg dksL_law_53 23 rfl rfl
theorem dksL_law_55 : cL_law.data.toList.drop 1427 = dktL_law_55 := dk_seg dksL_law_54 24 rfl rfl
theorem dksL_law_56 : cL_law.data.toList.drop 1451 = dktL_law_56 := dk_seg dksL_law_55 24 rfl rfl
theorem dksL_law_57 : cL_law.data.toList.drop 1475 = dktL_law_57 := dk_seg dksL_law_56 24 rfl rfl
theorem dksL_law_58 : cL_law.data.toList.drop 1499 = dktL_law_58 := dk_seg dksL_law_57 24 rfl rfl
theorem dksL_law_59 : cL_law.data.toList.drop 1521 = dktL_law_59 := dk_seg dksL_law_58 22 rfl rfl
theorem dksL_law_60 : cL_law.data.toList.drop 1545 = dktL_law_60 := dk_seg dksL_law_59 24 rfl rfl
theorem dksL_law_61 : cL_law.data.toList.drop 1569 = dktL_law_61 := dk_seg dksL_law_60 24 rfl rfl
theorem dksL_law_62 : cL_law.data.toList.drop 1592 = dktL_law_62 := dk_seg dksL_law_61 23 rfl rfl
theorem dksL_law_63 : cL_law.data.toList.drop 1616 = dktL_law_63 := dk_seg dksL_law_62 24 rfl rfl
theorem dksL_law_64 : cL_law.data.toList.drop 1639 = dktL_law_64 := dk_seg dksL_law_63 23 rfl rfl
theorem dksL_law_65 : cL_law.data.toList.drop 1662 = dktL_law_65 := dk_seg dksL_law_64 23 rfl rfl
theorem dksL_law_66 : cL_law.data.toList.drop 1685 = dktL_law_66 := dk_seg dksL_law_65 23 rfl rfl
theorem dksL_law_67 : cL_law.data.toList.drop 1709 = dktL_law_67 := dk_seg dksL_law_66 24 rfl rfl
theorem dksL_law_68 : cL_law.data.toList.drop 1732 = dktL_law_68 := dk_seg dksL_law_67 23 rfl rfl
theorem dksL_law_69 : cL_law.data.toList.drop 1755 = dktL_law_69 := dk_seg dksL_law_68 23 rfl rfl
theorem dksL_law_70 : cL_law.data.toList.drop 1779 = dktL_law_70 := dk_seg dksL_law_69 24 rfl rfl
theorem dksL_law_71 : cL_law.data.toList.drop 1802 = dktL_law_71 := dk_seg dksL_law_70 23 rfl rfl
theorem dksL_law_72 : cL_law.data.toList.drop 1825 = dktL_law_72 := dk_seg dksL_law_71 23 rfl rfl
theorem dksL_law_73 : cL_law.data.toList.drop 1849 = dktL_law_73 := dk_seg dksL_law_72 24 rfl rfl
theorem dksL_law_74 : cL_law.data.toList.drop 1872 = dktL_law_74 := dk_seg dksL_law_73 23 rfl rfl
theorem dksL_law_75 : cL_law.data.toList.drop 1896 = dktL_law_75 := dk_seg dksL_law_74 24 rfl rfl
theorem dksL_law_76 : cL_law.data.toList.drop 1920 = dktL_law_76 := dk_seg dksL_law_75 24 rfl rfl
theorem dksL_law_77 : cL_law.data.toList.drop 1944 = dktL_law_77 := dk_seg dksL_law_76 24 rfl rfl
theorem dksL_law_78 : cL_law.data.toList.drop 1968 = dktL_law_78 := dk_seg dksL_law_77 24 rfl rfl
theorem dksL_law_79 : cL_law.data.toList.drop 1992 = dktL_law_79 := dk_seg dksL_law_78 24 rfl rfl
theorem dksL_law_80 : cL_law.data.toList.drop 2016 = dktL_law_80 := dk_seg dksL_law_79 24 rfl rfl
theorem dksL_law_81 : cL_law.data.toList.drop 2039 = dktL_law_81 := dk_seg dksL_law_80 23 rfl rfl
theorem dksL_law_82 : cL_law.data.toList.drop 2062 = dktL_law_82 := dk_seg dksL_law_81 23 rfl rfl
theorem dksL_law_83 : cL_law.data.toList.drop 2086 = dktL_law_83 := dk_seg dksL_law_82 24 rfl rfl
theorem dksL_law_84 : cL_law.data.toList.drop 2108 = dktL_law_84 := dk_seg dksL_law_83 22 rfl rfl
theorem dL_law_0 : decode cL_law 0 = .ok (.new 8, 3) := dk_187 0 8 (dk_at dksL_law_0 0 rfl rfl)
theorem dL_law_3 : decode cL_law 3 = .ok (.dup, 1) := dk_89 (dk_at dksL_law_0 3 rfl rfl)
theorem dL_law_4 : decode cL_law 4 = .ok (.invokespecial 112, 3) := dk_183 0 112 (dk_at dksL_law_0 4 rfl rfl)
theorem dL_law_7 : decode cL_law 7 = .ok (.astore_n 1, 1) := dk_76 (dk_at dksL_law_0 7 rfl rfl)
theorem dL_law_8 : decode cL_law 8 = .ok (.new 113, 3) := dk_187 0 113 (dk_at dksL_law_0 8 rfl rfl)
theorem dL_law_11 : decode cL_law 11 = .ok (.dup, 1) := dk_89 (dk_at dksL_law_0 11 rfl rfl)
theorem dL_law_12 : decode cL_law 12 = .ok (.invokespecial 115, 3) := dk_183 0 115 (dk_at dksL_law_0 12 rfl rfl)
theorem dL_law_15 : decode cL_law 15 = .ok (.astore_n 2, 1) := dk_77 (dk_at dksL_law_0 15 rfl rfl)
theorem dL_law_16 : decode cL_law 16 = .ok (.new 14, 3) := dk_187 0 14 (dk_at dksL_law_0 16 rfl rfl)
theorem dL_law_19 : decode cL_law 19 = .ok (.dup, 1) := dk_89 (dk_at dksL_law_0 19 rfl rfl)
theorem dL_law_20 : decode cL_law 20 = .ok (.invokespecial 116, 3) := dk_183 0 116 (dk_at dksL_law_0 20 rfl rfl)
theorem dL_law_23 : decode cL_law 23 = .ok (.astore_n 3, 1) := dk_78 (dk_at dksL_law_0 23 rfl rfl)
theorem dL_law_24 : decode cL_law 24 = .ok (.iconst 0, 1) := dk_3 (dk_at dksL_law_1 0 rfl rfl)
theorem dL_law_25 : decode cL_law 25 = .ok (.istore 4, 2) := dk_54 4 (dk_at dksL_law_1 1 rfl rfl)
theorem dL_law_27 : decode cL_law 27 = .ok (.iload 4, 2) := dk_21 4 (dk_at dksL_law_1 3 rfl rfl)
theorem dL_law_29 : decode cL_law 29 = .ok (.aload_n 0, 1) := dk_42 (dk_at dksL_law_1 5 rfl rfl)
theorem dL_law_30 : decode cL_law 30 = .ok (.arraylength, 1) := dk_190 (dk_at dksL_law_1 6 rfl rfl)
theorem dL_law_31 : decode cL_law 31 = .ok (.iconst 5, 1) := dk_8 (dk_at dksL_law_1 7 rfl rfl)
theorem dL_law_32 : decode cL_law 32 = .ok (.isub, 1) := dk_100 (dk_at dksL_law_1 8 rfl rfl)
theorem dL_law_33 : decode cL_law 33 = .ok (.if_icmp .gt 2078, 3) := dk_163 8 30 (dk_at dksL_law_1 9 rfl rfl)
theorem dL_law_36 : decode cL_law 36 = .ok (.aload_n 0, 1) := dk_42 (dk_at dksL_law_1 12 rfl rfl)
theorem dL_law_37 : decode cL_law 37 = .ok (.iload 4, 2) := dk_21 4 (dk_at dksL_law_1 13 rfl rfl)
theorem dL_law_39 : decode cL_law 39 = .ok (.iaload, 1) := dk_46 (dk_at dksL_law_1 15 rfl rfl)
theorem dL_law_40 : decode cL_law 40 = .ok (.bipush 63, 2) := dk_16 63 (dk_at dksL_law_1 16 rfl rfl)
theorem dL_law_42 : decode cL_law 42 = .ok (.iand, 1) := dk_126 (dk_at dksL_law_1 18 rfl rfl)
theorem dL_law_43 : decode cL_law 43 = .ok (.tableswitch 2062 0 39 #[173, 230, 243, 336, 393, 406, 475, 544, 601, 658, 715, 772, 829, 886, 967, 1024, 1040, 1098, 1190, 1203, 1260, 1336, 1349, 1407, 1464, 1534, 1547, 1604, 1661, 1674, 1731, 1744, 1801, 1814, 1827, 1896, 1965, 2022, 2035, 2048], 173) := by decide +kernel
theorem dL_law_216 : decode cL_law 216 = .ok (.aload_n 1, 1) := dk_43 (dk_at dksL_law_3 0 rfl rfl)
theorem dL_law_217 : decode cL_law 217 = .ok (.aload_n 0, 1) := dk_42 (dk_at dksL_law_3 1 rfl rfl)
theorem dL_law_218 : decode cL_law 218 = .ok (.iload 4, 2) := dk_21 4 (dk_at dksL_law_3 2 rfl rfl)
theorem dL_law_220 : decode cL_law 220 = .ok (.iconst 1, 1) := dk_4 (dk_at dksL_law_3 4 rfl rfl)
theorem dL_law_221 : decode cL_law 221 = .ok (.iadd, 1) := dk_96 (dk_at dksL_law_3 5 rfl rfl)
theorem dL_law_222 : decode cL_law 222 = .ok (.iaload, 1) := dk_46 (dk_at dksL_law_3 6 rfl rfl)
theorem dL_law_223 : decode cL_law 223 = .ok (.aload_n 3, 1) := dk_45 (dk_at dksL_law_3 7 rfl rfl)
theorem dL_law_224 : decode cL_law 224 = .ok (.invokestatic 117, 3) := dk_184 0 117 (dk_at dksL_law_3 8 rfl rfl)
theorem dL_law_227 : decode cL_law 227 = .ok (.istore 5, 2) := dk_54 5 (dk_at dksL_law_3 11 rfl rfl)
theorem dL_law_229 : decode cL_law 229 = .ok (.aload_n 2, 1) := dk_44 (dk_at dksL_law_3 13 rfl rfl)
theorem dL_law_230 : decode cL_law 230 = .ok (.aload_n 0, 1) := dk_42 (dk_at dksL_law_3 14 rfl rfl)
theorem dL_law_231 : decode cL_law 231 = .ok (.iload 4, 2) := dk_21 4 (dk_at dksL_law_3 15 rfl rfl)
theorem dL_law_233 : decode cL_law 233 = .ok (.iconst 1, 1) := dk_4 (dk_at dksL_law_3 17 rfl rfl)
theorem dL_law_234 : decode cL_law 234 = .ok (.iadd, 1) := dk_96 (dk_at dksL_law_3 18 rfl rfl)
theorem dL_law_235 : decode cL_law 235 = .ok (.iaload, 1) := dk_46 (dk_at dksL_law_3 19 rfl rfl)
theorem dL_law_236 : decode cL_law 236 = .ok (.invokevirtual 122, 3) := dk_182 0 122 (dk_at dksL_law_3 20 rfl rfl)
theorem dL_law_239 : decode cL_law 239 = .ok (.istore 6, 2) := dk_54 6 (dk_at dksL_law_4 0 rfl rfl)
theorem dL_law_241 : decode cL_law 241 = .ok (.aload_n 2, 1) := dk_44 (dk_at dksL_law_4 2 rfl rfl)
theorem dL_law_242 : decode cL_law 242 = .ok (.invokevirtual 123, 3) := dk_182 0 123 (dk_at dksL_law_4 3 rfl rfl)
theorem dL_law_245 : decode cL_law 245 = .ok (.iload 5, 2) := dk_21 5 (dk_at dksL_law_4 6 rfl rfl)
theorem dL_law_247 : decode cL_law 247 = .ok (.if_icmp .eq 5, 3) := dk_159 0 5 (dk_at dksL_law_4 8 rfl rfl)
theorem dL_law_250 : decode cL_law 250 = .ok (.iconst 0, 1) := dk_3 (dk_at dksL_law_4 11 rfl rfl)
theorem dL_law_251 : decode cL_law 251 = .ok (.ireturn, 1) := dk_172 (dk_at dksL_law_4 12 rfl rfl)
theorem dL_law_252 : decode cL_law 252 = .ok (.iload 5, 2) := dk_21 5 (dk_at dksL_law_4 13 rfl rfl)
theorem dL_law_254 : decode cL_law 254 = .ok (.ifCond .ne 16, 3) := dk_154 0 16 (dk_at dksL_law_4 15 rfl rfl)
theorem dL_law_257 : decode cL_law 257 = .ok (.aload_n 3, 1) := dk_45 (dk_at dksL_law_4 18 rfl rfl)
theorem dL_law_258 : decode cL_law 258 = .ok (.getfield 13, 3) := dk_180 0 13 (dk_at dksL_law_4 19 rfl rfl)
theorem dL_law_261 : decode cL_law 261 = .ok (.iload 6, 2) := dk_21 6 (dk_at dksL_law_4 22 rfl rfl)
theorem dL_law_263 : decode cL_law 263 = .ok (.i2l, 1) := dk_133 (dk_at dksL_law_5 0 rfl rfl)
theorem dL_law_264 : decode cL_law 264 = .ok (.lcmp, 1) := dk_148 (dk_at dksL_law_5 1 rfl rfl)
theorem dL_law_265 : decode cL_law 265 = .ok (.ifCond .eq 5, 3) := dk_153 0 5 (dk_at dksL_law_5 2 rfl rfl)
theorem dL_law_268 : decode cL_law 268 = .ok (.iconst 0, 1) := dk_3 (dk_at dksL_law_5 5 rfl rfl)
theorem dL_law_269 : decode cL_law 269 = .ok (.ireturn, 1) := dk_172 (dk_at dksL_law_5 6 rfl rfl)
theorem dL_law_270 : decode cL_law 270 = .ok (.goto 1835, 3) := dk_167 7 43 (dk_at dksL_law_5 7 rfl rfl)
theorem dL_law_273 : decode cL_law 273 = .ok (.aload_n 1, 1) := dk_43 (dk_at dksL_law_5 10 rfl rfl)
theorem dL_law_274 : decode cL_law 274 = .ok (.invokevirtual 127, 3) := dk_182 0 127 (dk_at dksL_law_5 11 rfl rfl)
theorem dL_law_277 : decode cL_law 277 = .ok (.aload_n 2, 1) := dk_44 (dk_at dksL_law_5 14 rfl rfl)
theorem dL_law_278 : decode cL_law 278 = .ok (.invokevirtual 130, 3) := dk_182 0 130 (dk_at dksL_law_5 15 rfl rfl)
theorem dL_law_281 : decode cL_law 281 = .ok (.if_icmp .eq 1824, 3) := dk_159 7 32 (dk_at dksL_law_5 18 rfl rfl)
theorem dL_law_284 : decode cL_law 284 = .ok (.iconst 0, 1) := dk_3 (dk_at dksL_law_5 21 rfl rfl)
theorem dL_law_285 : decode cL_law 285 = .ok (.ireturn, 1) := dk_172 (dk_at dksL_law_5 22 rfl rfl)
theorem dL_law_286 : decode cL_law 286 = .ok (.aload_n 1, 1) := dk_43 (dk_at dksL_law_5 23 rfl rfl)
theorem dL_law_287 : decode cL_law 287 = .ok (.aload_n 0, 1) := dk_42 (dk_at dksL_law_6 0 rfl rfl)
theorem dL_law_288 : decode cL_law 288 = .ok (.iload 4, 2) := dk_21 4 (dk_at dksL_law_6 1 rfl rfl)
theorem dL_law_290 : decode cL_law 290 = .ok (.iconst 1, 1) := dk_4 (dk_at dksL_law_6 3 rfl rfl)
theorem dL_law_291 : decode cL_law 291 = .ok (.iadd, 1) := dk_96 (dk_at dksL_law_6 4 rfl rfl)
theorem dL_law_292 : decode cL_law 292 = .ok (.iaload, 1) := dk_46 (dk_at dksL_law_6 5 rfl rfl)
theorem dL_law_293 : decode cL_law 293 = .ok (.aload_n 0, 1) := dk_42 (dk_at dksL_law_6 6 rfl rfl)
theorem dL_law_294 : decode cL_law 294 = .ok (.iload 4, 2) := dk_21 4 (dk_at dksL_law_6 7 rfl rfl)
theorem dL_law_296 : decode cL_law 296 = .ok (.iconst 2, 1) := dk_5 (dk_at dksL_law_6 9 rfl rfl)
theorem dL_law_297 : decode cL_law 297 = .ok (.iadd, 1) := dk_96 (dk_at dksL_law_6 10 rfl rfl)
theorem dL_law_298 : decode cL_law 298 = .ok (.iaload, 1) := dk_46 (dk_at dksL_law_6 11 rfl rfl)
theorem dL_law_299 : decode cL_law 299 = .ok (.aload_n 0, 1) := dk_42 (dk_at dksL_law_6 12 rfl rfl)
theorem dL_law_300 : decode cL_law 300 = .ok (.iload 4, 2) := dk_21 4 (dk_at dksL_law_6 13 rfl rfl)
theorem dL_law_302 : decode cL_law 302 = .ok (.iconst 3, 1) := dk_6 (dk_at dksL_law_6 15 rfl rfl)
theorem dL_law_303 : decode cL_law 303 = .ok (.iadd, 1) := dk_96 (dk_at dksL_law_6 16 rfl rfl)
theorem dL_law_304 : decode cL_law 304 = .ok (.iaload, 1) := dk_46 (dk_at dksL_law_6 17 rfl rfl)
theorem dL_law_305 : decode cL_law 305 = .ok (.aload_n 0, 1) := dk_42 (dk_at dksL_law_6 18 rfl rfl)
theorem dL_law_306 : decode cL_law 306 = .ok (.iload 4, 2) := dk_21 4 (dk_at dksL_law_6 19 rfl rfl)
theorem dL_law_308 : decode cL_law 308 = .ok (.iconst 4, 1) := dk_7 (dk_at dksL_law_6 21 rfl rfl)
theorem dL_law_309 : decode cL_law 309 = .ok (.iadd, 1) := dk_96 (dk_at dksL_law_6 22 rfl rfl)
theorem dL_law_310 : decode cL_law 310 = .ok (.iaload, 1) := dk_46 (dk_at dksL_law_6 23 rfl rfl)
theorem dL_law_311 : decode cL_law 311 = .ok (.aload_n 3, 1) := dk_45 (dk_at dksL_law_7 0 rfl rfl)
theorem dL_law_312 : decode cL_law 312 = .ok (.invokestatic 131, 3) := dk_184 0 131 (dk_at dksL_law_7 1 rfl rfl)
theorem dL_law_315 : decode cL_law 315 = .ok (.istore 5, 2) := dk_54 5 (dk_at dksL_law_7 4 rfl rfl)
theorem dL_law_317 : decode cL_law 317 = .ok (.aload_n 2, 1) := dk_44 (dk_at dksL_law_7 6 rfl rfl)
theorem dL_law_318 : decode cL_law 318 = .ok (.aload_n 0, 1) := dk_42 (dk_at dksL_law_7 7 rfl rfl)
theorem dL_law_319 : decode cL_law 319 = .ok (.iload 4, 2) := dk_21 4 (dk_at dksL_law_7 8 rfl rfl)
theorem dL_law_321 : decode cL_law 321 = .ok (.iconst 1, 1) := dk_4 (dk_at dksL_law_7 10 rfl rfl)
theorem dL_law_322 : decode cL_law 322 = .ok (.iadd, 1) := dk_96 (dk_at dksL_law_7 11 rfl rfl)
theorem dL_law_323 : decode cL_law 323 = .ok (.iaload, 1) := dk_46 (dk_at dksL_law_7 12 rfl rfl)
theorem dL_law_324 : decode cL_law 324 = .ok (.aload_n 0, 1) := dk_42 (dk_at dksL_law_7 13 rfl rfl)
theorem dL_law_325 : decode cL_law 325 = .ok (.iload 4, 2) := dk_21 4 (dk_at dksL_law_7 14 rfl rfl)
theorem dL_law_327 : decode cL_law 327 = .ok (.iconst 2, 1) := dk_5 (dk_at dksL_law_7 16 rfl rfl)
theorem dL_law_328 : decode cL_law 328 = .ok (.iadd, 1) := dk_96 (dk_at dksL_law_7 17 rfl rfl)
theorem dL_law_329 : decode cL_law 329 = .ok (.iaload, 1) := dk_46 (dk_at dksL_law_7 18 rfl rfl)
theorem dL_law_330 : decode cL_law 330 = .ok (.aload_n 0, 1) := dk_42 (dk_at dksL_law_7 19 rfl rfl)
theorem dL_law_331 : decode cL_law 331 = .ok (.iload 4, 2) := dk_21 4 (dk_at dksL_law_7 20 rfl rfl)
theorem dL_law_333 : decode cL_law 333 = .ok (.iconst 3, 1) := dk_6 (dk_at dksL_law_7 22 rfl rfl)
theorem dL_law_334 : decode cL_law 334 = .ok (.iadd, 1) := dk_96 (dk_at dksL_law_7 23 rfl rfl)
theorem dL_law_335 : decode cL_law 335 = .ok (.iaload, 1) := dk_46 (dk_at dksL_law_8 0 rfl rfl)
theorem dL_law_336 : decode cL_law 336 = .ok (.aload_n 0, 1) := dk_42 (dk_at dksL_law_8 1 rfl rfl)
theorem dL_law_337 : decode cL_law 337 = .ok (.iload 4, 2) := dk_21 4 (dk_at dksL_law_8 2 rfl rfl)
theorem dL_law_339 : decode cL_law 339 = .ok (.iconst 4, 1) := dk_7 (dk_at dksL_law_8 4 rfl rfl)
theorem dL_law_340 : decode cL_law 340 = .ok (.iadd, 1) := dk_96 (dk_at dksL_law_8 5 rfl rfl)
theorem dL_law_341 : decode cL_law 341 = .ok (.iaload, 1) := dk_46 (dk_at dksL_law_8 6 rfl rfl)
theorem dL_law_342 : decode cL_law 342 = .ok (.invokevirtual 134, 3) := dk_182 0 134 (dk_at dksL_law_8 7 rfl rfl)
theorem dL_law_345 : decode cL_law 345 = .ok (.istore 6, 2) := dk_54 6 (dk_at dksL_law_8 10 rfl rfl)
theorem dL_law_347 : decode cL_law 347 = .ok (.aload_n 2, 1) := dk_44 (dk_at dksL_law_8 12 rfl rfl)
theorem dL_law_348 : decode cL_law 348 = .ok (.invokevirtual 123, 3) := dk_182 0 123 (dk_at dksL_law_8 13 rfl rfl)
theorem dL_law_351 : decode cL_law 351 = .ok (.iload 5, 2) := dk_21 5 (dk_at dksL_law_8 16 rfl rfl)
theorem dL_law_353 : decode cL_law 353 = .ok (.if_icmp .eq 5, 3) := dk_159 0 5 (dk_at dksL_law_8 18 rfl rfl)
theorem dL_law_356 : decode cL_law 356 = .ok (.iconst 0, 1) := dk_3 (dk_at dksL_law_8 21 rfl rfl)
theorem dL_law_357 : decode cL_law 357 = .ok (.ireturn, 1) := dk_172 (dk_at dksL_law_8 22 rfl rfl)
theorem dL_law_358 : decode cL_law 358 = .ok (.iload 5, 2) := dk_21 5 (dk_at dksL_law_9 0 rfl rfl)
theorem dL_law_360 : decode cL_law 360 = .ok (.ifCond .ne 16, 3) := dk_154 0 16 (dk_at dksL_law_9 2 rfl rfl)
theorem dL_law_363 : decode cL_law 363 = .ok (.aload_n 3, 1) := dk_45 (dk_at dksL_law_9 5 rfl rfl)
theorem dL_law_364 : decode cL_law 364 = .ok (.getfield 13, 3) := dk_180 0 13 (dk_at dksL_law_9 6 rfl rfl)
theorem dL_law_367 : decode cL_law 367 = .ok (.iload 6, 2) := dk_21 6 (dk_at dksL_law_9 9 rfl rfl)
theorem dL_law_369 : decode cL_law 369 = .ok (.i2l, 1) := dk_133 (dk_at dksL_law_9 11 rfl rfl)
theorem dL_law_370 : decode cL_law 370 = .ok (.lcmp, 1) := dk_148 (dk_at dksL_law_9 12 rfl rfl)
theorem dL_law_371 : decode cL_law 371 = .ok (.ifCond .eq 5, 3) := dk_153 0 5 (dk_at dksL_law_9 13 rfl rfl)
theorem dL_law_374 : decode cL_law 374 = .ok (.iconst 0, 1) := dk_3 (dk_at dksL_law_9 16 rfl rfl)
theorem dL_law_375 : decode cL_law 375 = .ok (.ireturn, 1) := dk_172 (dk_at dksL_law_9 17 rfl rfl)
theorem dL_law_376 : decode cL_law 376 = .ok (.goto 1729, 3) := dk_167 6 193 (dk_at dksL_law_9 18 rfl rfl)
theorem dL_law_379 : decode cL_law 379 = .ok (.aload_n 1, 1) := dk_43 (dk_at dksL_law_9 21 rfl rfl)
theorem dL_law_380 : decode cL_law 380 = .ok (.aload_n 0, 1) := dk_42 (dk_at dksL_law_9 22 rfl rfl)
theorem dL_law_381 : decode cL_law 381 = .ok (.iload 4, 2) := dk_21 4 (dk_at dksL_law_10 0 rfl rfl)
theorem dL_law_383 : decode cL_law 383 = .ok (.iconst 1, 1) := dk_4 (dk_at dksL_law_10 2 rfl rfl)
theorem dL_law_384 : decode cL_law 384 = .ok (.iadd, 1) := dk_96 (dk_at dksL_law_10 3 rfl rfl)
theorem dL_law_385 : decode cL_law 385 = .ok (.iaload, 1) := dk_46 (dk_at dksL_law_10 4 rfl rfl)
theorem dL_law_386 : decode cL_law 386 = .ok (.aload_n 3, 1) := dk_45 (dk_at dksL_law_10 5 rfl rfl)
theorem dL_law_387 : decode cL_law 387 = .ok (.invokestatic 135, 3) := dk_184 0 135 (dk_at dksL_law_10 6 rfl rfl)
theorem dL_law_390 : decode cL_law 390 = .ok (.istore 5, 2) := dk_54 5 (dk_at dksL_law_10 9 rfl rfl)
theorem dL_law_392 : decode cL_law 392 = .ok (.aload_n 2, 1) := dk_44 (dk_at dksL_law_10 11 rfl rfl)
theorem dL_law_393 : decode cL_law 393 = .ok (.aload_n 0, 1) := dk_42 (dk_at dksL_law_10 12 rfl rfl)
theorem dL_law_394 : decode cL_law 394 = .ok (.iload 4, 2) := dk_21 4 (dk_at dksL_law_10 13 rfl rfl)
theorem dL_law_396 : decode cL_law 396 = .ok (.iconst 1, 1) := dk_4 (dk_at dksL_law_10 15 rfl rfl)
theorem dL_law_397 : decode cL_law 397 = .ok (.iadd, 1) := dk_96 (dk_at dksL_law_10 16 rfl rfl)
theorem dL_law_398 : decode cL_law 398 = .ok (.iaload, 1) := dk_46 (dk_at dksL_law_10 17 rfl rfl)
theorem dL_law_399 : decode cL_law 399 = .ok (.invokevirtual 137, 3) := dk_182 0 137 (dk_at dksL_law_10 18 rfl rfl)
theorem dL_law_402 : decode cL_law 402 = .ok (.istore 6, 2) := dk_54 6 (dk_at dksL_law_10 21 rfl rfl)
theorem dL_law_404 : decode cL_law 404 = .ok (.aload_n 2, 1) := dk_44 (dk_at dksL_law_10 23 rfl rfl)
theorem dL_law_405 : decode cL_law 405 = .ok (.invokevirtual 123, 3) := dk_182 0 123 (dk_at dksL_law_11 0 rfl rfl)
theorem dL_law_408 : decode cL_law 408 = .ok (.iload 5, 2) := dk_21 5 (dk_at dksL_law_11 3 rfl rfl)
theorem dL_law_410 : decode cL_law 410 = .ok (.if_icmp .eq 5, 3) := dk_159 0 5 (dk_at dksL_law_11 5 rfl rfl)
theorem dL_law_413 : decode cL_law 413 = .ok (.iconst 0, 1) := dk_3 (dk_at dksL_law_11 8 rfl rfl)
theorem dL_law_414 : decode cL_law 414 = .ok (.ireturn, 1) := dk_172 (dk_at dksL_law_11 9 rfl rfl)
theorem dL_law_415 : decode cL_law 415 = .ok (.iload 5, 2) := dk_21 5 (dk_at dksL_law_11 10 rfl rfl)
theorem dL_law_417 : decode cL_law 417 = .ok (.ifCond .ne 16, 3) := dk_154 0 16 (dk_at dksL_law_11 12 rfl rfl)
theorem dL_law_420 : decode cL_law 420 = .ok (.aload_n 3, 1) := dk_45 (dk_at dksL_law_11 15 rfl rfl)
theorem dL_law_421 : decode cL_law 421 = .ok (.getfield 13, 3) := dk_180 0 13 (dk_at dksL_law_11 16 rfl rfl)
theorem dL_law_424 : decode cL_law 424 = .ok (.iload 6, 2) := dk_21 6 (dk_at dksL_law_11 19 rfl rfl)
theorem dL_law_426 : decode cL_law 426 = .ok (.i2l, 1) := dk_133 (dk_at dksL_law_11 21 rfl rfl)
theorem dL_law_427 : decode cL_law 427 = .ok (.lcmp, 1) := dk_148 (dk_at dksL_law_11 22 rfl rfl)
theorem dL_law_428 : decode cL_law 428 = .ok (.ifCond .eq 5, 3) := dk_153 0 5 (dk_at dksL_law_12 0 rfl rfl)
theorem dL_law_431 : decode cL_law 431 = .ok (.iconst 0, 1) := dk_3 (dk_at dksL_law_12 3 rfl rfl)
theorem dL_law_432 : decode cL_law 432 = .ok (.ireturn, 1) := dk_172 (dk_at dksL_law_12 4 rfl rfl)
theorem dL_law_433 : decode cL_law 433 = .ok (.goto 1672, 3) := dk_167 6 136 (dk_at dksL_law_12 5 rfl rfl)
theorem dL_law_436 : decode cL_law 436 = .ok (.aload_n 1, 1) := dk_43 (dk_at dksL_law_12 8 rfl rfl)
theorem dL_law_437 : decode cL_law 437 = .ok (.invokevirtual 138, 3) := dk_182 0 138 (dk_at dksL_law_12 9 rfl rfl)
theorem dL_law_440 : decode cL_law 440 = .ok (.aload_n 2, 1) := dk_44 (dk_at dksL_law_12 12 rfl rfl)
theorem dL_law_441 : decode cL_law 441 = .ok (.invokevirtual 141, 3) := dk_182 0 141 (dk_at dksL_law_12 13 rfl rfl)
theorem dL_law_444 : decode cL_law 444 = .ok (.if_icmp .eq 1661, 3) := dk_159 6 125 (dk_at dksL_law_12 16 rfl rfl)
theorem dL_law_447 : decode cL_law 447 = .ok (.iconst 0, 1) := dk_3 (dk_at dksL_law_12 19 rfl rfl)
theorem dL_law_448 : decode cL_law 448 = .ok (.ireturn, 1) := dk_172 (dk_at dksL_law_12 20 rfl rfl)
theorem dL_law_449 : decode cL_law 449 = .ok (.aload_n 1, 1) := dk_43 (dk_at dksL_law_12 21 rfl rfl)
theorem dL_law_450 : decode cL_law 450 = .ok (.aload_n 0, 1) := dk_42 (dk_at dksL_law_12 22 rfl rfl)
theorem dL_law_451 : decode cL_law 451 = .ok (.iload 4, 2) := dk_21 4 (dk_at dksL_law_13 0 rfl rfl)
theorem dL_law_453 : decode cL_law 453 = .ok (.iconst 1, 1) := dk_4 (dk_at dksL_law_13 2 rfl rfl)
theorem dL_law_454 : decode cL_law 454 = .ok (.iadd, 1) := dk_96 (dk_at dksL_law_13 3 rfl rfl)
theorem dL_law_455 : decode cL_law 455 = .ok (.iaload, 1) := dk_46 (dk_at dksL_law_13 4 rfl rfl)
theorem dL_law_456 : decode cL_law 456 = .ok (.aload_n 0, 1) := dk_42 (dk_at dksL_law_13 5 rfl rfl)
theorem dL_law_457 : decode cL_law 457 = .ok (.iload 4, 2) := dk_21 4 (dk_at dksL_law_13 6 rfl rfl)
theorem dL_law_459 : decode cL_law 459 = .ok (.iconst 2, 1) := dk_5 (dk_at dksL_law_13 8 rfl rfl)
theorem dL_law_460 : decode cL_law 460 = .ok (.iadd, 1) := dk_96 (dk_at dksL_law_13 9 rfl rfl)
theorem dL_law_461 : decode cL_law 461 = .ok (.iaload, 1) := dk_46 (dk_at dksL_law_13 10 rfl rfl)
theorem dL_law_462 : decode cL_law 462 = .ok (.aload_n 3, 1) := dk_45 (dk_at dksL_law_13 11 rfl rfl)
theorem dL_law_463 : decode cL_law 463 = .ok (.invokestatic 142, 3) := dk_184 0 142 (dk_at dksL_law_13 12 rfl rfl)
theorem dL_law_466 : decode cL_law 466 = .ok (.istore 5, 2) := dk_54 5 (dk_at dksL_law_13 15 rfl rfl)
theorem dL_law_468 : decode cL_law 468 = .ok (.aload_n 2, 1) := dk_44 (dk_at dksL_law_13 17 rfl rfl)
theorem dL_law_469 : decode cL_law 469 = .ok (.aload_n 0, 1) := dk_42 (dk_at dksL_law_13 18 rfl rfl)
theorem dL_law_470 : decode cL_law 470 = .ok (.iload 4, 2) := dk_21 4 (dk_at dksL_law_13 19 rfl rfl)
theorem dL_law_472 : decode cL_law 472 = .ok (.iconst 1, 1) := dk_4 (dk_at dksL_law_13 21 rfl rfl)
theorem dL_law_473 : decode cL_law 473 = .ok (.iadd, 1) := dk_96 (dk_at dksL_law_13 22 rfl rfl)
theorem dL_law_474 : decode cL_law 474 = .ok (.iaload, 1) := dk_46 (dk_at dksL_law_13 23 rfl rfl)
theorem dL_law_475 : decode cL_law 475 = .ok (.aload_n 0, 1) := dk_42 (dk_at dksL_law_14 0 rfl rfl)
theorem dL_law_476 : decode cL_law 476 = .ok (.iload 4, 2) := dk_21 4 (dk_at dksL_law_14 1 rfl rfl)
theorem dL_law_478 : decode cL_law 478 = .ok (.iconst 2, 1) := dk_5 (dk_at dksL_law_14 3 rfl rfl)
theorem dL_law_479 : decode cL_law 479 = .ok (.iadd, 1) := dk_96 (dk_at dksL_law_14 4 rfl rfl)
theorem dL_law_480 : decode cL_law 480 = .ok (.iaload, 1) := dk_46 (dk_at dksL_law_14 5 rfl rfl)
theorem dL_law_481 : decode cL_law 481 = .ok (.invokevirtual 145, 3) := dk_182 0 145 (dk_at dksL_law_14 6 rfl rfl)
theorem dL_law_484 : decode cL_law 484 = .ok (.istore 6, 2) := dk_54 6 (dk_at dksL_law_14 9 rfl rfl)
theorem dL_law_486 : decode cL_law 486 = .ok (.aload_n 2, 1) := dk_44 (dk_at dksL_law_14 11 rfl rfl)
theorem dL_law_487 : decode cL_law 487 = .ok (.invokevirtual 123, 3) := dk_182 0 123 (dk_at dksL_law_14 12 rfl rfl)
theorem dL_law_490 : decode cL_law 490 = .ok (.iload 5, 2) := dk_21 5 (dk_at dksL_law_14 15 rfl rfl)
theorem dL_law_492 : decode cL_law 492 = .ok (.if_icmp .eq 5, 3) := dk_159 0 5 (dk_at dksL_law_14 17 rfl rfl)
theorem dL_law_495 : decode cL_law 495 = .ok (.iconst 0, 1) := dk_3 (dk_at dksL_law_14 20 rfl rfl)
theorem dL_law_496 : decode cL_law 496 = .ok (.ireturn, 1) := dk_172 (dk_at dksL_law_14 21 rfl rfl)
theorem dL_law_497 : decode cL_law 497 = .ok (.iload 5, 2) := dk_21 5 (dk_at dksL_law_14 22 rfl rfl)
theorem dL_law_499 : decode cL_law 499 = .ok (.ifCond .ne 16, 3) := dk_154 0 16 (dk_at dksL_law_15 0 rfl rfl)
theorem dL_law_502 : decode cL_law 502 = .ok (.aload_n 3, 1) := dk_45 (dk_at dksL_law_15 3 rfl rfl)
theorem dL_law_503 : decode cL_law 503 = .ok (.getfield 13, 3) := dk_180 0 13 (dk_at dksL_law_15 4 rfl rfl)
theorem dL_law_506 : decode cL_law 506 = .ok (.iload 6, 2) := dk_21 6 (dk_at dksL_law_15 7 rfl rfl)
theorem dL_law_508 : decode cL_law 508 = .ok (.i2l, 1) := dk_133 (dk_at dksL_law_15 9 rfl rfl)
theorem dL_law_509 : decode cL_law 509 = .ok (.lcmp, 1) := dk_148 (dk_at dksL_law_15 10 rfl rfl)
theorem dL_law_510 : decode cL_law 510 = .ok (.ifCond .eq 5, 3) := dk_153 0 5 (dk_at dksL_law_15 11 rfl rfl)
theorem dL_law_513 : decode cL_law 513 = .ok (.iconst 0, 1) := dk_3 (dk_at dksL_law_15 14 rfl rfl)
theorem dL_law_514 : decode cL_law 514 = .ok (.ireturn, 1) := dk_172 (dk_at dksL_law_15 15 rfl rfl)
theorem dL_law_515 : decode cL_law 515 = .ok (.goto 1590, 3) := dk_167 6 54 (dk_at dksL_law_15 16 rfl rfl)
theorem dL_law_518 : decode cL_law 518 = .ok (.aload_n 1, 1) := dk_43 (dk_at dksL_law_15 19 rfl rfl)
theorem dL_law_519 : decode cL_law 519 = .ok (.aload_n 0, 1) := dk_42 (dk_at dksL_law_15 20 rfl rfl)
theorem dL_law_520 : decode cL_law 520 = .ok (.iload 4, 2) := dk_21 4 (dk_at dksL_law_15 21 rfl rfl)
theorem dL_law_522 : decode cL_law 522 = .ok (.iconst 1, 1) := dk_4 (dk_at dksL_law_15 23 rfl rfl)
theorem dL_law_523 : decode cL_law 523 = .ok (.iadd, 1) := dk_96 (dk_at dksL_law_16 0 rfl rfl)
theorem dL_law_524 : decode cL_law 524 = .ok (.iaload, 1) := dk_46 (dk_at dksL_law_16 1 rfl rfl)
theorem dL_law_525 : decode cL_law 525 = .ok (.aload_n 0, 1) := dk_42 (dk_at dksL_law_16 2 rfl rfl)
theorem dL_law_526 : decode cL_law 526 = .ok (.iload 4, 2) := dk_21 4 (dk_at dksL_law_16 3 rfl rfl)
theorem dL_law_528 : decode cL_law 528 = .ok (.iconst 2, 1) := dk_5 (dk_at dksL_law_16 5 rfl rfl)
theorem dL_law_529 : decode cL_law 529 = .ok (.iadd, 1) := dk_96 (dk_at dksL_law_16 6 rfl rfl)
theorem dL_law_530 : decode cL_law 530 = .ok (.iaload, 1) := dk_46 (dk_at dksL_law_16 7 rfl rfl)
theorem dL_law_531 : decode cL_law 531 = .ok (.aload_n 3, 1) := dk_45 (dk_at dksL_law_16 8 rfl rfl)
theorem dL_law_532 : decode cL_law 532 = .ok (.invokestatic 146, 3) := dk_184 0 146 (dk_at dksL_law_16 9 rfl rfl)
theorem dL_law_535 : decode cL_law 535 = .ok (.istore 5, 2) := dk_54 5 (dk_at dksL_law_16 12 rfl rfl)
theorem dL_law_537 : decode cL_law 537 = .ok (.aload_n 2, 1) := dk_44 (dk_at dksL_law_16 14 rfl rfl)
theorem dL_law_538 : decode cL_law 538 = .ok (.aload_n 0, 1) := dk_42 (dk_at dksL_law_16 15 rfl rfl)
theorem dL_law_539 : decode cL_law 539 = .ok (.iload 4, 2) := dk_21 4 (dk_at dksL_law_16 16 rfl rfl)
theorem dL_law_541 : decode cL_law 541 = .ok (.iconst 1, 1) := dk_4 (dk_at dksL_law_16 18 rfl rfl)
theorem dL_law_542 : decode cL_law 542 = .ok (.iadd, 1) := dk_96 (dk_at dksL_law_16 19 rfl rfl)
theorem dL_law_543 : decode cL_law 543 = .ok (.iaload, 1) := dk_46 (dk_at dksL_law_16 20 rfl rfl)
theorem dL_law_544 : decode cL_law 544 = .ok (.aload_n 0, 1) := dk_42 (dk_at dksL_law_16 21 rfl rfl)
theorem dL_law_545 : decode cL_law 545 = .ok (.iload 4, 2) := dk_21 4 (dk_at dksL_law_16 22 rfl rfl)
theorem dL_law_547 : decode cL_law 547 = .ok (.iconst 2, 1) := dk_5 (dk_at dksL_law_17 0 rfl rfl)
theorem dL_law_548 : decode cL_law 548 = .ok (.iadd, 1) := dk_96 (dk_at dksL_law_17 1 rfl rfl)
theorem dL_law_549 : decode cL_law 549 = .ok (.iaload, 1) := dk_46 (dk_at dksL_law_17 2 rfl rfl)
theorem dL_law_550 : decode cL_law 550 = .ok (.invokevirtual 148, 3) := dk_182 0 148 (dk_at dksL_law_17 3 rfl rfl)
theorem dL_law_553 : decode cL_law 553 = .ok (.istore 6, 2) := dk_54 6 (dk_at dksL_law_17 6 rfl rfl)
theorem dL_law_555 : decode cL_law 555 = .ok (.aload_n 2, 1) := dk_44 (dk_at dksL_law_17 8 rfl rfl)
theorem dL_law_556 : decode cL_law 556 = .ok (.invokevirtual 123, 3) := dk_182 0 123 (dk_at dksL_law_17 9 rfl rfl)
theorem dL_law_559 : decode cL_law 559 = .ok (.iload 5, 2) := dk_21 5 (dk_at dksL_law_17 12 rfl rfl)
theorem dL_law_561 : decode cL_law 561 = .ok (.if_icmp .eq 5, 3) := dk_159 0 5 (dk_at dksL_law_17 14 rfl rfl)
theorem dL_law_564 : decode cL_law 564 = .ok (.iconst 0, 1) := dk_3 (dk_at dksL_law_17 17 rfl rfl)
theorem dL_law_565 : decode cL_law 565 = .ok (.ireturn, 1) := dk_172 (dk_at dksL_law_17 18 rfl rfl)
theorem dL_law_566 : decode cL_law 566 = .ok (.iload 5, 2) := dk_21 5 (dk_at dksL_law_17 19 rfl rfl)
theorem dL_law_568 : decode cL_law 568 = .ok (.ifCond .ne 16, 3) := dk_154 0 16 (dk_at dksL_law_17 21 rfl rfl)
theorem dL_law_571 : decode cL_law 571 = .ok (.aload_n 3, 1) := dk_45 (dk_at dksL_law_18 0 rfl rfl)
theorem dL_law_572 : decode cL_law 572 = .ok (.getfield 13, 3) := dk_180 0 13 (dk_at dksL_law_18 1 rfl rfl)
theorem dL_law_575 : decode cL_law 575 = .ok (.iload 6, 2) := dk_21 6 (dk_at dksL_law_18 4 rfl rfl)
theorem dL_law_577 : decode cL_law 577 = .ok (.i2l, 1) := dk_133 (dk_at dksL_law_18 6 rfl rfl)
theorem dL_law_578 : decode cL_law 578 = .ok (.lcmp, 1) := dk_148 (dk_at dksL_law_18 7 rfl rfl)
theorem dL_law_579 : decode cL_law 579 = .ok (.ifCond .eq 5, 3) := dk_153 0 5 (dk_at dksL_law_18 8 rfl rfl)
theorem dL_law_582 : decode cL_law 582 = .ok (.iconst 0, 1) := dk_3 (dk_at dksL_law_18 11 rfl rfl)
theorem dL_law_583 : decode cL_law 583 = .ok (.ireturn, 1) := dk_172 (dk_at dksL_law_18 12 rfl rfl)
theorem dL_law_584 : decode cL_law 584 = .ok (.goto 1521, 3) := dk_167 5 241 (dk_at dksL_law_18 13 rfl rfl)
theorem dL_law_587 : decode cL_law 587 = .ok (.aload_n 1, 1) := dk_43 (dk_at dksL_law_18 16 rfl rfl)
theorem dL_law_588 : decode cL_law 588 = .ok (.aload_n 0, 1) := dk_42 (dk_at dksL_law_18 17 rfl rfl)
theorem dL_law_589 : decode cL_law 589 = .ok (.iload 4, 2) := dk_21 4 (dk_at dksL_law_18 18 rfl rfl)
theorem dL_law_591 : decode cL_law 591 = .ok (.iconst 1, 1) := dk_4 (dk_at dksL_law_18 20 rfl rfl)
theorem dL_law_592 : decode cL_law 592 = .ok (.iadd, 1) := dk_96 (dk_at dksL_law_18 21 rfl rfl)
theorem dL_law_593 : decode cL_law 593 = .ok (.iaload, 1) := dk_46 (dk_at dksL_law_18 22 rfl rfl)
theorem dL_law_594 : decode cL_law 594 = .ok (.aload_n 3, 1) := dk_45 (dk_at dksL_law_18 23 rfl rfl)
theorem dL_law_595 : decode cL_law 595 = .ok (.invokestatic 149, 3) := dk_184 0 149 (dk_at dksL_law_19 0 rfl rfl)
theorem dL_law_598 : decode cL_law 598 = .ok (.istore 5, 2) := dk_54 5 (dk_at dksL_law_19 3 rfl rfl)
theorem dL_law_600 : decode cL_law 600 = .ok (.aload_n 2, 1) := dk_44 (dk_at dksL_law_19 5 rfl rfl)
theorem dL_law_601 : decode cL_law 601 = .ok (.aload_n 0, 1) := dk_42 (dk_at dksL_law_19 6 rfl rfl)
theorem dL_law_602 : decode cL_law 602 = .ok (.iload 4, 2) := dk_21 4 (dk_at dksL_law_19 7 rfl rfl)
theorem dL_law_604 : decode cL_law 604 = .ok (.iconst 1, 1) := dk_4 (dk_at dksL_law_19 9 rfl rfl)
theorem dL_law_605 : decode cL_law 605 = .ok (.iadd, 1) := dk_96 (dk_at dksL_law_19 10 rfl rfl)
theorem dL_law_606 : decode cL_law 606 = .ok (.iaload, 1) := dk_46 (dk_at dksL_law_19 11 rfl rfl)
theorem dL_law_607 : decode cL_law 607 = .ok (.invokevirtual 151, 3) := dk_182 0 151 (dk_at dksL_law_19 12 rfl rfl)
theorem dL_law_610 : decode cL_law 610 = .ok (.istore 6, 2) := dk_54 6 (dk_at dksL_law_19 15 rfl rfl)
theorem dL_law_612 : decode cL_law 612 = .ok (.aload_n 2, 1) := dk_44 (dk_at dksL_law_19 17 rfl rfl)
theorem dL_law_613 : decode cL_law 613 = .ok (.invokevirtual 123, 3) := dk_182 0 123 (dk_at dksL_law_19 18 rfl rfl)
theorem dL_law_616 : decode cL_law 616 = .ok (.iload 5, 2) := dk_21 5 (dk_at dksL_law_19 21 rfl rfl)
theorem dL_law_618 : decode cL_law 618 = .ok (.if_icmp .eq 5, 3) := dk_159 0 5 (dk_at dksL_law_20 0 rfl rfl)
theorem dL_law_621 : decode cL_law 621 = .ok (.iconst 0, 1) := dk_3 (dk_at dksL_law_20 3 rfl rfl)
theorem dL_law_622 : decode cL_law 622 = .ok (.ireturn, 1) := dk_172 (dk_at dksL_law_20 4 rfl rfl)
theorem dL_law_623 : decode cL_law 623 = .ok (.iload 5, 2) := dk_21 5 (dk_at dksL_law_20 5 rfl rfl)
theorem dL_law_625 : decode cL_law 625 = .ok (.ifCond .ne 16, 3) := dk_154 0 16 (dk_at dksL_law_20 7 rfl rfl)
theorem dL_law_628 : decode cL_law 628 = .ok (.aload_n 3, 1) := dk_45 (dk_at dksL_law_20 10 rfl rfl)
theorem dL_law_629 : decode cL_law 629 = .ok (.getfield 13, 3) := dk_180 0 13 (dk_at dksL_law_20 11 rfl rfl)
theorem dL_law_632 : decode cL_law 632 = .ok (.iload 6, 2) := dk_21 6 (dk_at dksL_law_20 14 rfl rfl)
theorem dL_law_634 : decode cL_law 634 = .ok (.i2l, 1) := dk_133 (dk_at dksL_law_20 16 rfl rfl)
theorem dL_law_635 : decode cL_law 635 = .ok (.lcmp, 1) := dk_148 (dk_at dksL_law_20 17 rfl rfl)
theorem dL_law_636 : decode cL_law 636 = .ok (.ifCond .eq 5, 3) := dk_153 0 5 (dk_at dksL_law_20 18 rfl rfl)
theorem dL_law_639 : decode cL_law 639 = .ok (.iconst 0, 1) := dk_3 (dk_at dksL_law_20 21 rfl rfl)
theorem dL_law_640 : decode cL_law 640 = .ok (.ireturn, 1) := dk_172 (dk_at dksL_law_20 22 rfl rfl)
theorem dL_law_641 : decode cL_law 641 = .ok (.goto 1464, 3) := dk_167 5 184 (dk_at dksL_law_21 0 rfl rfl)
theorem dL_law_644 : decode cL_law 644 = .ok (.aload_n 1, 1) := dk_43 (dk_at dksL_law_21 3 rfl rfl)
theorem dL_law_645 : decode cL_law 645 = .ok (.aload_n 0, 1) := dk_42 (dk_at dksL_law_21 4 rfl rfl)
theorem dL_law_646 : decode cL_law 646 = .ok (.iload 4, 2) := dk_21 4 (dk_at dksL_law_21 5 rfl rfl)
theorem dL_law_648 : decode cL_law 648 = .ok (.iconst 1, 1) := dk_4 (dk_at dksL_law_21 7 rfl rfl)
theorem dL_law_649 : decode cL_law 649 = .ok (.iadd, 1) := dk_96 (dk_at dksL_law_21 8 rfl rfl)
theorem dL_law_650 : decode cL_law 650 = .ok (.iaload, 1) := dk_46 (dk_at dksL_law_21 9 rfl rfl)
theorem dL_law_651 : decode cL_law 651 = .ok (.aload_n 3, 1) := dk_45 (dk_at dksL_law_21 10 rfl rfl)
theorem dL_law_652 : decode cL_law 652 = .ok (.invokestatic 152, 3) := dk_184 0 152 (dk_at dksL_law_21 11 rfl rfl)
theorem dL_law_655 : decode cL_law 655 = .ok (.istore 5, 2) := dk_54 5 (dk_at dksL_law_21 14 rfl rfl)
theorem dL_law_657 : decode cL_law 657 = .ok (.aload_n 2, 1) := dk_44 (dk_at dksL_law_21 16 rfl rfl)
theorem dL_law_658 : decode cL_law 658 = .ok (.aload_n 0, 1) := dk_42 (dk_at dksL_law_21 17 rfl rfl)
theorem dL_law_659 : decode cL_law 659 = .ok (.iload 4, 2) := dk_21 4 (dk_at dksL_law_21 18 rfl rfl)
theorem dL_law_661 : decode cL_law 661 = .ok (.iconst 1, 1) := dk_4 (dk_at dksL_law_21 20 rfl rfl)
theorem dL_law_662 : decode cL_law 662 = .ok (.iadd, 1) := dk_96 (dk_at dksL_law_21 21 rfl rfl)
theorem dL_law_663 : decode cL_law 663 = .ok (.iaload, 1) := dk_46 (dk_at dksL_law_21 22 rfl rfl)
theorem dL_law_664 : decode cL_law 664 = .ok (.invokevirtual 154, 3) := dk_182 0 154 (dk_at dksL_law_22 0 rfl rfl)
theorem dL_law_667 : decode cL_law 667 = .ok (.istore 6, 2) := dk_54 6 (dk_at dksL_law_22 3 rfl rfl)
theorem dL_law_669 : decode cL_law 669 = .ok (.aload_n 2, 1) := dk_44 (dk_at dksL_law_22 5 rfl rfl)
theorem dL_law_670 : decode cL_law 670 = .ok (.invokevirtual 123, 3) := dk_182 0 123 (dk_at dksL_law_22 6 rfl rfl)
theorem dL_law_673 : decode cL_law 673 = .ok (.iload 5, 2) := dk_21 5 (dk_at dksL_law_22 9 rfl rfl)
theorem dL_law_675 : decode cL_law 675 = .ok (.if_icmp .eq 5, 3) := dk_159 0 5 (dk_at dksL_law_22 11 rfl rfl)
theorem dL_law_678 : decode cL_law 678 = .ok (.iconst 0, 1) := dk_3 (dk_at dksL_law_22 14 rfl rfl)
theorem dL_law_679 : decode cL_law 679 = .ok (.ireturn, 1) := dk_172 (dk_at dksL_law_22 15 rfl rfl)
theorem dL_law_680 : decode cL_law 680 = .ok (.iload 5, 2) := dk_21 5 (dk_at dksL_law_22 16 rfl rfl)
theorem dL_law_682 : decode cL_law 682 = .ok (.ifCond .ne 16, 3) := dk_154 0 16 (dk_at dksL_law_22 18 rfl rfl)
theorem dL_law_685 : decode cL_law 685 = .ok (.aload_n 3, 1) := dk_45 (dk_at dksL_law_22 21 rfl rfl)
theorem dL_law_686 : decode cL_law 686 = .ok (.getfield 13, 3) := dk_180 0 13 (dk_at dksL_law_23 0 rfl rfl)
theorem dL_law_689 : decode cL_law 689 = .ok (.iload 6, 2) := dk_21 6 (dk_at dksL_law_23 3 rfl rfl)
theorem dL_law_691 : decode cL_law 691 = .ok (.i2l, 1) := dk_133 (dk_at dksL_law_23 5 rfl rfl)
theorem dL_law_692 : decode cL_law 692 = .ok (.lcmp, 1) := dk_148 (dk_at dksL_law_23 6 rfl rfl)
theorem dL_law_693 : decode cL_law 693 = .ok (.ifCond .eq 5, 3) := dk_153 0 5 (dk_at dksL_law_23 7 rfl rfl)
theorem dL_law_696 : decode cL_law 696 = .ok (.iconst 0, 1) := dk_3 (dk_at dksL_law_23 10 rfl rfl)
theorem dL_law_697 : decode cL_law 697 = .ok (.ireturn, 1) := dk_172 (dk_at dksL_law_23 11 rfl rfl)
theorem dL_law_698 : decode cL_law 698 = .ok (.goto 1407, 3) := dk_167 5 127 (dk_at dksL_law_23 12 rfl rfl)
theorem dL_law_701 : decode cL_law 701 = .ok (.aload_n 1, 1) := dk_43 (dk_at dksL_law_23 15 rfl rfl)
theorem dL_law_702 : decode cL_law 702 = .ok (.aload_n 0, 1) := dk_42 (dk_at dksL_law_23 16 rfl rfl)
theorem dL_law_703 : decode cL_law 703 = .ok (.iload 4, 2) := dk_21 4 (dk_at dksL_law_23 17 rfl rfl)
theorem dL_law_705 : decode cL_law 705 = .ok (.iconst 1, 1) := dk_4 (dk_at dksL_law_23 19 rfl rfl)
theorem dL_law_706 : decode cL_law 706 = .ok (.iadd, 1) := dk_96 (dk_at dksL_law_23 20 rfl rfl)
theorem dL_law_707 : decode cL_law 707 = .ok (.iaload, 1) := dk_46 (dk_at dksL_law_23 21 rfl rfl)
theorem dL_law_708 : decode cL_law 708 = .ok (.aload_n 3, 1) := dk_45 (dk_at dksL_law_23 22 rfl rfl)
theorem dL_law_709 : decode cL_law 709 = .ok (.invokestatic 155, 3) := dk_184 0 155 (dk_at dksL_law_24 0 rfl rfl)
theorem dL_law_712 : decode cL_law 712 = .ok (.istore 5, 2) := dk_54 5 (dk_at dksL_law_24 3 rfl rfl)
theorem dL_law_714 : decode cL_law 714 = .ok (.aload_n 2, 1) := dk_44 (dk_at dksL_law_24 5 rfl rfl)
theorem dL_law_715 : decode cL_law 715 = .ok (.aload_n 0, 1) := dk_42 (dk_at dksL_law_24 6 rfl rfl)
theorem dL_law_716 : decode cL_law 716 = .ok (.iload 4, 2) := dk_21 4 (dk_at dksL_law_24 7 rfl rfl)
theorem dL_law_718 : decode cL_law 718 = .ok (.iconst 1, 1) := dk_4 (dk_at dksL_law_24 9 rfl rfl)
theorem dL_law_719 : decode cL_law 719 = .ok (.iadd, 1) := dk_96 (dk_at dksL_law_24 10 rfl rfl)
theorem dL_law_720 : decode cL_law 720 = .ok (.iaload, 1) := dk_46 (dk_at dksL_law_24 11 rfl rfl)
theorem dL_law_721 : decode cL_law 721 = .ok (.invokevirtual 157, 3) := dk_182 0 157 (dk_at dksL_law_24 12 rfl rfl)
theorem dL_law_724 : decode cL_law 724 = .ok (.istore 6, 2) := dk_54 6 (dk_at dksL_law_24 15 rfl rfl)
theorem dL_law_726 : decode cL_law 726 = .ok (.aload_n 2, 1) := dk_44 (dk_at dksL_law_24 17 rfl rfl)
theorem dL_law_727 : decode cL_law 727 = .ok (.invokevirtual 123, 3) := dk_182 0 123 (dk_at dksL_law_24 18 rfl rfl)
theorem dL_law_730 : decode cL_law 730 = .ok (.iload 5, 2) := dk_21 5 (dk_at dksL_law_24 21 rfl rfl)
theorem dL_law_732 : decode cL_law 732 = .ok (.if_icmp .eq 5, 3) := dk_159 0 5 (dk_at dksL_law_25 0 rfl rfl)
theorem dL_law_735 : decode cL_law 735 = .ok (.iconst 0, 1) := dk_3 (dk_at dksL_law_25 3 rfl rfl)
theorem dL_law_736 : decode cL_law 736 = .ok (.ireturn, 1) := dk_172 (dk_at dksL_law_25 4 rfl rfl)
theorem dL_law_737 : decode cL_law 737 = .ok (.iload 5, 2) := dk_21 5 (dk_at dksL_law_25 5 rfl rfl)
theorem dL_law_739 : decode cL_law 739 = .ok (.ifCond .ne 16, 3) := dk_154 0 16 (dk_at dksL_law_25 7 rfl rfl)
theorem dL_law_742 : decode cL_law 742 = .ok (.aload_n 3, 1) := dk_45 (dk_at dksL_law_25 10 rfl rfl)
theorem dL_law_743 : decode cL_law 743 = .ok (.getfield 13, 3) := dk_180 0 13 (dk_at dksL_law_25 11 rfl rfl)
theorem dL_law_746 : decode cL_law 746 = .ok (.iload 6, 2) := dk_21 6 (dk_at dksL_law_25 14 rfl rfl)
theorem dL_law_748 : decode cL_law 748 = .ok (.i2l, 1) := dk_133 (dk_at dksL_law_25 16 rfl rfl)
theorem dL_law_749 : decode cL_law 749 = .ok (.lcmp, 1) := dk_148 (dk_at dksL_law_25 17 rfl rfl)
theorem dL_law_750 : decode cL_law 750 = .ok (.ifCond .eq 5, 3) := dk_153 0 5 (dk_at dksL_law_25 18 rfl rfl)
theorem dL_law_753 : decode cL_law 753 = .ok (.iconst 0, 1) := dk_3 (dk_at dksL_law_25 21 rfl rfl)
theorem dL_law_754 : decode cL_law 754 = .ok (.ireturn, 1) := dk_172 (dk_at dksL_law_25 22 rfl rfl)
theorem dL_law_755 : decode cL_law 755 = .ok (.goto 1350, 3) := dk_167 5 70 (dk_at dksL_law_26 0 rfl rfl)
theorem dL_law_758 : decode cL_law 758 = .ok (.aload_n 1, 1) := dk_43 (dk_at dksL_law_26 3 rfl rfl)
theorem dL_law_759 : decode cL_law 759 = .ok (.aload_n 0, 1) := dk_42 (dk_at dksL_law_26 4 rfl rfl)
theorem dL_law_760 : decode cL_law 760 = .ok (.iload 4, 2) := dk_21 4 (dk_at dksL_law_26 5 rfl rfl)
theorem dL_law_762 : decode cL_law 762 = .ok (.iconst 1, 1) := dk_4 (dk_at dksL_law_26 7 rfl rfl)
theorem dL_law_763 : decode cL_law 763 = .ok (.iadd, 1) := dk_96 (dk_at dksL_law_26 8 rfl rfl)
theorem dL_law_764 : decode cL_law 764 = .ok (.iaload, 1) := dk_46 (dk_at dksL_law_26 9 rfl rfl)
theorem dL_law_765 : decode cL_law 765 = .ok (.aload_n 3, 1) := dk_45 (dk_at dksL_law_26 10 rfl rfl)
theorem dL_law_766 : decode cL_law 766 = .ok (.invokestatic 158, 3) := dk_184 0 158 (dk_at dksL_law_26 11 rfl rfl)
theorem dL_law_769 : decode cL_law 769 = .ok (.istore 5, 2) := dk_54 5 (dk_at dksL_law_26 14 rfl rfl)
theorem dL_law_771 : decode cL_law 771 = .ok (.aload_n 2, 1) := dk_44 (dk_at dksL_law_26 16 rfl rfl)
theorem dL_law_772 : decode cL_law 772 = .ok (.aload_n 0, 1) := dk_42 (dk_at dksL_law_26 17 rfl rfl)
theorem dL_law_773 : decode cL_law 773 = .ok (.iload 4, 2) := dk_21 4 (dk_at dksL_law_26 18 rfl rfl)
theorem dL_law_775 : decode cL_law 775 = .ok (.iconst 1, 1) := dk_4 (dk_at dksL_law_26 20 rfl rfl)
theorem dL_law_776 : decode cL_law 776 = .ok (.iadd, 1) := dk_96 (dk_at dksL_law_26 21 rfl rfl)
theorem dL_law_777 : decode cL_law 777 = .ok (.iaload, 1) := dk_46 (dk_at dksL_law_26 22 rfl rfl)
theorem dL_law_778 : decode cL_law 778 = .ok (.invokevirtual 160, 3) := dk_182 0 160 (dk_at dksL_law_27 0 rfl rfl)
theorem dL_law_781 : decode cL_law 781 = .ok (.istore 6, 2) := dk_54 6 (dk_at dksL_law_27 3 rfl rfl)
theorem dL_law_783 : decode cL_law 783 = .ok (.aload_n 2, 1) := dk_44 (dk_at dksL_law_27 5 rfl rfl)
theorem dL_law_784 : decode cL_law 784 = .ok (.invokevirtual 123, 3) := dk_182 0 123 (dk_at dksL_law_27 6 rfl rfl)
theorem dL_law_787 : decode cL_law 787 = .ok (.iload 5, 2) := dk_21 5 (dk_at dksL_law_27 9 rfl rfl)
theorem dL_law_789 : decode cL_law 789 = .ok (.if_icmp .eq 5, 3) := dk_159 0 5 (dk_at dksL_law_27 11 rfl rfl)
theorem dL_law_792 : decode cL_law 792 = .ok (.iconst 0, 1) := dk_3 (dk_at dksL_law_27 14 rfl rfl)
theorem dL_law_793 : decode cL_law 793 = .ok (.ireturn, 1) := dk_172 (dk_at dksL_law_27 15 rfl rfl)
theorem dL_law_794 : decode cL_law 794 = .ok (.iload 5, 2) := dk_21 5 (dk_at dksL_law_27 16 rfl rfl)
theorem dL_law_796 : decode cL_law 796 = .ok (.ifCond .ne 16, 3) := dk_154 0 16 (dk_at dksL_law_27 18 rfl rfl)
theorem dL_law_799 : decode cL_law 799 = .ok (.aload_n 3, 1) := dk_45 (dk_at dksL_law_27 21 rfl rfl)
theorem dL_law_800 : decode cL_law 800 = .ok (.getfield 13, 3) := dk_180 0 13 (dk_at dksL_law_28 0 rfl rfl)
theorem dL_law_803 : decode cL_law 803 = .ok (.iload 6, 2) := dk_21 6 (dk_at dksL_law_28 3 rfl rfl)
theorem dL_law_805 : decode cL_law 805 = .ok (.i2l, 1) := dk_133 (dk_at dksL_law_28 5 rfl rfl)
theorem dL_law_806 : decode cL_law 806 = .ok (.lcmp, 1) := dk_148 (dk_at dksL_law_28 6 rfl rfl)
theorem dL_law_807 : decode cL_law 807 = .ok (.ifCond .eq 5, 3) := dk_153 0 5 (dk_at dksL_law_28 7 rfl rfl)
theorem dL_law_810 : decode cL_law 810 = .ok (.iconst 0, 1) := dk_3 (dk_at dksL_law_28 10 rfl rfl)
theorem dL_law_811 : decode cL_law 811 = .ok (.ireturn, 1) := dk_172 (dk_at dksL_law_28 11 rfl rfl)
theorem dL_law_812 : decode cL_law 812 = .ok (.goto 1293, 3) := dk_167 5 13 (dk_at dksL_law_28 12 rfl rfl)
theorem dL_law_815 : decode cL_law 815 = .ok (.aload_n 1, 1) := dk_43 (dk_at dksL_law_28 15 rfl rfl)
theorem dL_law_816 : decode cL_law 816 = .ok (.aload_n 0, 1) := dk_42 (dk_at dksL_law_28 16 rfl rfl)
theorem dL_law_817 : decode cL_law 817 = .ok (.iload 4, 2) := dk_21 4 (dk_at dksL_law_28 17 rfl rfl)
theorem dL_law_819 : decode cL_law 819 = .ok (.iconst 1, 1) := dk_4 (dk_at dksL_law_28 19 rfl rfl)
theorem dL_law_820 : decode cL_law 820 = .ok (.iadd, 1) := dk_96 (dk_at dksL_law_28 20 rfl rfl)
theorem dL_law_821 : decode cL_law 821 = .ok (.iaload, 1) := dk_46 (dk_at dksL_law_28 21 rfl rfl)
theorem dL_law_822 : decode cL_law 822 = .ok (.aload_n 3, 1) := dk_45 (dk_at dksL_law_28 22 rfl rfl)
theorem dL_law_823 : decode cL_law 823 = .ok (.invokestatic 161, 3) := dk_184 0 161 (dk_at dksL_law_29 0 rfl rfl)
theorem dL_law_826 : decode cL_law 826 = .ok (.istore 5, 2) := dk_54 5 (dk_at dksL_law_29 3 rfl rfl)
theorem dL_law_828 : decode cL_law 828 = .ok (.aload_n 2, 1) := dk_44 (dk_at dksL_law_29 5 rfl rfl)
theorem dL_law_829 : decode cL_law 829 = .ok (.aload_n 0, 1) := dk_42 (dk_at dksL_law_29 6 rfl rfl)
theorem dL_law_830 : decode cL_law 830 = .ok (.iload 4, 2) := dk_21 4 (dk_at dksL_law_29 7 rfl rfl)
theorem dL_law_832 : decode cL_law 832 = .ok (.iconst 1, 1) := dk_4 (dk_at dksL_law_29 9 rfl rfl)
theorem dL_law_833 : decode cL_law 833 = .ok (.iadd, 1) := dk_96 (dk_at dksL_law_29 10 rfl rfl)
theorem dL_law_834 : decode cL_law 834 = .ok (.iaload, 1) := dk_46 (dk_at dksL_law_29 11 rfl rfl)
theorem dL_law_835 : decode cL_law 835 = .ok (.invokevirtual 163, 3) := dk_182 0 163 (dk_at dksL_law_29 12 rfl rfl)
theorem dL_law_838 : decode cL_law 838 = .ok (.istore 6, 2) := dk_54 6 (dk_at dksL_law_29 15 rfl rfl)
theorem dL_law_840 : decode cL_law 840 = .ok (.aload_n 2, 1) := dk_44 (dk_at dksL_law_29 17 rfl rfl)
theorem dL_law_841 : decode cL_law 841 = .ok (.invokevirtual 123, 3) := dk_182 0 123 (dk_at dksL_law_29 18 rfl rfl)
theorem dL_law_844 : decode cL_law 844 = .ok (.iload 5, 2) := dk_21 5 (dk_at dksL_law_29 21 rfl rfl)
theorem dL_law_846 : decode cL_law 846 = .ok (.if_icmp .eq 5, 3) := dk_159 0 5 (dk_at dksL_law_30 0 rfl rfl)
theorem dL_law_849 : decode cL_law 849 = .ok (.iconst 0, 1) := dk_3 (dk_at dksL_law_30 3 rfl rfl)
theorem dL_law_850 : decode cL_law 850 = .ok (.ireturn, 1) := dk_172 (dk_at dksL_law_30 4 rfl rfl)
theorem dL_law_851 : decode cL_law 851 = .ok (.iload 5, 2) := dk_21 5 (dk_at dksL_law_30 5 rfl rfl)
theorem dL_law_853 : decode cL_law 853 = .ok (.ifCond .ne 16, 3) := dk_154 0 16 (dk_at dksL_law_30 7 rfl rfl)
theorem dL_law_856 : decode cL_law 856 = .ok (.aload_n 3, 1) := dk_45 (dk_at dksL_law_30 10 rfl rfl)
theorem dL_law_857 : decode cL_law 857 = .ok (.getfield 13, 3) := dk_180 0 13 (dk_at dksL_law_30 11 rfl rfl)
theorem dL_law_860 : decode cL_law 860 = .ok (.iload 6, 2) := dk_21 6 (dk_at dksL_law_30 14 rfl rfl)
theorem dL_law_862 : decode cL_law 862 = .ok (.i2l, 1) := dk_133 (dk_at dksL_law_30 16 rfl rfl)
theorem dL_law_863 : decode cL_law 863 = .ok (.lcmp, 1) := dk_148 (dk_at dksL_law_30 17 rfl rfl)
theorem dL_law_864 : decode cL_law 864 = .ok (.ifCond .eq 5, 3) := dk_153 0 5 (dk_at dksL_law_30 18 rfl rfl)
theorem dL_law_867 : decode cL_law 867 = .ok (.iconst 0, 1) := dk_3 (dk_at dksL_law_30 21 rfl rfl)
theorem dL_law_868 : decode cL_law 868 = .ok (.ireturn, 1) := dk_172 (dk_at dksL_law_30 22 rfl rfl)
theorem dL_law_869 : decode cL_law 869 = .ok (.goto 1236, 3) := dk_167 4 212 (dk_at dksL_law_31 0 rfl rfl)
theorem dL_law_872 : decode cL_law 872 = .ok (.aload_n 1, 1) := dk_43 (dk_at dksL_law_31 3 rfl rfl)
theorem dL_law_873 : decode cL_law 873 = .ok (.aload_n 0, 1) := dk_42 (dk_at dksL_law_31 4 rfl rfl)
theorem dL_law_874 : decode cL_law 874 = .ok (.iload 4, 2) := dk_21 4 (dk_at dksL_law_31 5 rfl rfl)
theorem dL_law_876 : decode cL_law 876 = .ok (.iconst 1, 1) := dk_4 (dk_at dksL_law_31 7 rfl rfl)
theorem dL_law_877 : decode cL_law 877 = .ok (.iadd, 1) := dk_96 (dk_at dksL_law_31 8 rfl rfl)
theorem dL_law_878 : decode cL_law 878 = .ok (.iaload, 1) := dk_46 (dk_at dksL_law_31 9 rfl rfl)
theorem dL_law_879 : decode cL_law 879 = .ok (.aload_n 3, 1) := dk_45 (dk_at dksL_law_31 10 rfl rfl)
theorem dL_law_880 : decode cL_law 880 = .ok (.invokestatic 164, 3) := dk_184 0 164 (dk_at dksL_law_31 11 rfl rfl)
theorem dL_law_883 : decode cL_law 883 = .ok (.istore 5, 2) := dk_54 5 (dk_at dksL_law_31 14 rfl rfl)
theorem dL_law_885 : decode cL_law 885 = .ok (.aload_n 2, 1) := dk_44 (dk_at dksL_law_31 16 rfl rfl)
theorem dL_law_886 : decode cL_law 886 = .ok (.aload_n 0, 1) := dk_42 (dk_at dksL_law_31 17 rfl rfl)
theorem dL_law_887 : decode cL_law 887 = .ok (.iload 4, 2) := dk_21 4 (dk_at dksL_law_31 18 rfl rfl)
theorem dL_law_889 : decode cL_law 889 = .ok (.iconst 1, 1) := dk_4 (dk_at dksL_law_31 20 rfl rfl)
theorem dL_law_890 : decode cL_law 890 = .ok (.iadd, 1) := dk_96 (dk_at dksL_law_31 21 rfl rfl)
theorem dL_law_891 : decode cL_law 891 = .ok (.iaload, 1) := dk_46 (dk_at dksL_law_31 22 rfl rfl)
theorem dL_law_892 : decode cL_law 892 = .ok (.invokevirtual 166, 3) := dk_182 0 166 (dk_at dksL_law_32 0 rfl rfl)
theorem dL_law_895 : decode cL_law 895 = .ok (.istore 6, 2) := dk_54 6 (dk_at dksL_law_32 3 rfl rfl)
theorem dL_law_897 : decode cL_law 897 = .ok (.aload_n 2, 1) := dk_44 (dk_at dksL_law_32 5 rfl rfl)
theorem dL_law_898 : decode cL_law 898 = .ok (.invokevirtual 123, 3) := dk_182 0 123 (dk_at dksL_law_32 6 rfl rfl)
theorem dL_law_901 : decode cL_law 901 = .ok (.iload 5, 2) := dk_21 5 (dk_at dksL_law_32 9 rfl rfl)
theorem dL_law_903 : decode cL_law 903 = .ok (.if_icmp .eq 5, 3) := dk_159 0 5 (dk_at dksL_law_32 11 rfl rfl)
theorem dL_law_906 : decode cL_law 906 = .ok (.iconst 0, 1) := dk_3 (dk_at dksL_law_32 14 rfl rfl)
theorem dL_law_907 : decode cL_law 907 = .ok (.ireturn, 1) := dk_172 (dk_at dksL_law_32 15 rfl rfl)
theorem dL_law_908 : decode cL_law 908 = .ok (.iload 5, 2) := dk_21 5 (dk_at dksL_law_32 16 rfl rfl)
theorem dL_law_910 : decode cL_law 910 = .ok (.ifCond .ne 16, 3) := dk_154 0 16 (dk_at dksL_law_32 18 rfl rfl)
theorem dL_law_913 : decode cL_law 913 = .ok (.aload_n 3, 1) := dk_45 (dk_at dksL_law_32 21 rfl rfl)
theorem dL_law_914 : decode cL_law 914 = .ok (.getfield 13, 3) := dk_180 0 13 (dk_at dksL_law_33 0 rfl rfl)
theorem dL_law_917 : decode cL_law 917 = .ok (.iload 6, 2) := dk_21 6 (dk_at dksL_law_33 3 rfl rfl)
theorem dL_law_919 : decode cL_law 919 = .ok (.i2l, 1) := dk_133 (dk_at dksL_law_33 5 rfl rfl)
theorem dL_law_920 : decode cL_law 920 = .ok (.lcmp, 1) := dk_148 (dk_at dksL_law_33 6 rfl rfl)
theorem dL_law_921 : decode cL_law 921 = .ok (.ifCond .eq 5, 3) := dk_153 0 5 (dk_at dksL_law_33 7 rfl rfl)
theorem dL_law_924 : decode cL_law 924 = .ok (.iconst 0, 1) := dk_3 (dk_at dksL_law_33 10 rfl rfl)
theorem dL_law_925 : decode cL_law 925 = .ok (.ireturn, 1) := dk_172 (dk_at dksL_law_33 11 rfl rfl)
theorem dL_law_926 : decode cL_law 926 = .ok (.goto 1179, 3) := dk_167 4 155 (dk_at dksL_law_33 12 rfl rfl)
theorem dL_law_929 : decode cL_law 929 = .ok (.aload_n 1, 1) := dk_43 (dk_at dksL_law_33 15 rfl rfl)
theorem dL_law_930 : decode cL_law 930 = .ok (.aload_n 0, 1) := dk_42 (dk_at dksL_law_33 16 rfl rfl)
theorem dL_law_931 : decode cL_law 931 = .ok (.iload 4, 2) := dk_21 4 (dk_at dksL_law_33 17 rfl rfl)
theorem dL_law_933 : decode cL_law 933 = .ok (.iconst 1, 1) := dk_4 (dk_at dksL_law_33 19 rfl rfl)
theorem dL_law_934 : decode cL_law 934 = .ok (.iadd, 1) := dk_96 (dk_at dksL_law_33 20 rfl rfl)
theorem dL_law_935 : decode cL_law 935 = .ok (.iaload, 1) := dk_46 (dk_at dksL_law_33 21 rfl rfl)
theorem dL_law_936 : decode cL_law 936 = .ok (.aload_n 0, 1) := dk_42 (dk_at dksL_law_33 22 rfl rfl)
theorem dL_law_937 : decode cL_law 937 = .ok (.iload 4, 2) := dk_21 4 (dk_at dksL_law_34 0 rfl rfl)
theorem dL_law_939 : decode cL_law 939 = .ok (.iconst 2, 1) := dk_5 (dk_at dksL_law_34 2 rfl rfl)
theorem dL_law_940 : decode cL_law 940 = .ok (.iadd, 1) := dk_96 (dk_at dksL_law_34 3 rfl rfl)
theorem dL_law_941 : decode cL_law 941 = .ok (.iaload, 1) := dk_46 (dk_at dksL_law_34 4 rfl rfl)
theorem dL_law_942 : decode cL_law 942 = .ok (.aload_n 0, 1) := dk_42 (dk_at dksL_law_34 5 rfl rfl)
theorem dL_law_943 : decode cL_law 943 = .ok (.iload 4, 2) := dk_21 4 (dk_at dksL_law_34 6 rfl rfl)
theorem dL_law_945 : decode cL_law 945 = .ok (.iconst 3, 1) := dk_6 (dk_at dksL_law_34 8 rfl rfl)
theorem dL_law_946 : decode cL_law 946 = .ok (.iadd, 1) := dk_96 (dk_at dksL_law_34 9 rfl rfl)
theorem dL_law_947 : decode cL_law 947 = .ok (.iaload, 1) := dk_46 (dk_at dksL_law_34 10 rfl rfl)
theorem dL_law_948 : decode cL_law 948 = .ok (.aload_n 3, 1) := dk_45 (dk_at dksL_law_34 11 rfl rfl)
theorem dL_law_949 : decode cL_law 949 = .ok (.invokestatic 167, 3) := dk_184 0 167 (dk_at dksL_law_34 12 rfl rfl)
theorem dL_law_952 : decode cL_law 952 = .ok (.istore 5, 2) := dk_54 5 (dk_at dksL_law_34 15 rfl rfl)
theorem dL_law_954 : decode cL_law 954 = .ok (.aload_n 2, 1) := dk_44 (dk_at dksL_law_34 17 rfl rfl)
theorem dL_law_955 : decode cL_law 955 = .ok (.aload_n 0, 1) := dk_42 (dk_at dksL_law_34 18 rfl rfl)
theorem dL_law_956 : decode cL_law 956 = .ok (.iload 4, 2) := dk_21 4 (dk_at dksL_law_34 19 rfl rfl)
theorem dL_law_958 : decode cL_law 958 = .ok (.iconst 1, 1) := dk_4 (dk_at dksL_law_34 21 rfl rfl)
theorem dL_law_959 : decode cL_law 959 = .ok (.iadd, 1) := dk_96 (dk_at dksL_law_34 22 rfl rfl)
theorem dL_law_960 : decode cL_law 960 = .ok (.iaload, 1) := dk_46 (dk_at dksL_law_34 23 rfl rfl)
theorem dL_law_961 : decode cL_law 961 = .ok (.aload_n 0, 1) := dk_42 (dk_at dksL_law_35 0 rfl rfl)
theorem dL_law_962 : decode cL_law 962 = .ok (.iload 4, 2) := dk_21 4 (dk_at dksL_law_35 1 rfl rfl)
theorem dL_law_964 : decode cL_law 964 = .ok (.iconst 2, 1) := dk_5 (dk_at dksL_law_35 3 rfl rfl)
theorem dL_law_965 : decode cL_law 965 = .ok (.iadd, 1) := dk_96 (dk_at dksL_law_35 4 rfl rfl)
theorem dL_law_966 : decode cL_law 966 = .ok (.iaload, 1) := dk_46 (dk_at dksL_law_35 5 rfl rfl)
theorem dL_law_967 : decode cL_law 967 = .ok (.aload_n 0, 1) := dk_42 (dk_at dksL_law_35 6 rfl rfl)
theorem dL_law_968 : decode cL_law 968 = .ok (.iload 4, 2) := dk_21 4 (dk_at dksL_law_35 7 rfl rfl)
theorem dL_law_970 : decode cL_law 970 = .ok (.iconst 3, 1) := dk_6 (dk_at dksL_law_35 9 rfl rfl)
theorem dL_law_971 : decode cL_law 971 = .ok (.iadd, 1) := dk_96 (dk_at dksL_law_35 10 rfl rfl)
theorem dL_law_972 : decode cL_law 972 = .ok (.iaload, 1) := dk_46 (dk_at dksL_law_35 11 rfl rfl)
theorem dL_law_973 : decode cL_law 973 = .ok (.invokevirtual 170, 3) := dk_182 0 170 (dk_at dksL_law_35 12 rfl rfl)
theorem dL_law_976 : decode cL_law 976 = .ok (.istore 6, 2) := dk_54 6 (dk_at dksL_law_35 15 rfl rfl)
theorem dL_law_978 : decode cL_law 978 = .ok (.aload_n 2, 1) := dk_44 (dk_at dksL_law_35 17 rfl rfl)
theorem dL_law_979 : decode cL_law 979 = .ok (.invokevirtual 123, 3) := dk_182 0 123 (dk_at dksL_law_35 18 rfl rfl)
theorem dL_law_982 : decode cL_law 982 = .ok (.iload 5, 2) := dk_21 5 (dk_at dksL_law_35 21 rfl rfl)
theorem dL_law_984 : decode cL_law 984 = .ok (.if_icmp .eq 5, 3) := dk_159 0 5 (dk_at dksL_law_36 0 rfl rfl)
theorem dL_law_987 : decode cL_law 987 = .ok (.iconst 0, 1) := dk_3 (dk_at dksL_law_36 3 rfl rfl)
theorem dL_law_988 : decode cL_law 988 = .ok (.ireturn, 1) := dk_172 (dk_at dksL_law_36 4 rfl rfl)
theorem dL_law_989 : decode cL_law 989 = .ok (.iload 5, 2) := dk_21 5 (dk_at dksL_law_36 5 rfl rfl)
theorem dL_law_991 : decode cL_law 991 = .ok (.ifCond .ne 16, 3) := dk_154 0 16 (dk_at dksL_law_36 7 rfl rfl)
theorem dL_law_994 : decode cL_law 994 = .ok (.aload_n 3, 1) := dk_45 (dk_at dksL_law_36 10 rfl rfl)
theorem dL_law_995 : decode cL_law 995 = .ok (.getfield 13, 3) := dk_180 0 13 (dk_at dksL_law_36 11 rfl rfl)
theorem dL_law_998 : decode cL_law 998 = .ok (.iload 6, 2) := dk_21 6 (dk_at dksL_law_36 14 rfl rfl)
theorem dL_law_1000 : decode cL_law 1000 = .ok (.i2l, 1) := dk_133 (dk_at dksL_law_36 16 rfl rfl)
theorem dL_law_1001 : decode cL_law 1001 = .ok (.lcmp, 1) := dk_148 (dk_at dksL_law_36 17 rfl rfl)
theorem dL_law_1002 : decode cL_law 1002 = .ok (.ifCond .eq 5, 3) := dk_153 0 5 (dk_at dksL_law_36 18 rfl rfl)
theorem dL_law_1005 : decode cL_law 1005 = .ok (.iconst 0, 1) := dk_3 (dk_at dksL_law_36 21 rfl rfl)
theorem dL_law_1006 : decode cL_law 1006 = .ok (.ireturn, 1) := dk_172 (dk_at dksL_law_36 22 rfl rfl)
theorem dL_law_1007 : decode cL_law 1007 = .ok (.goto 1098, 3) := dk_167 4 74 (dk_at dksL_law_37 0 rfl rfl)
theorem dL_law_1010 : decode cL_law 1010 = .ok (.aload_n 1, 1) := dk_43 (dk_at dksL_law_37 3 rfl rfl)
theorem dL_law_1011 : decode cL_law 1011 = .ok (.aload_n 0, 1) := dk_42 (dk_at dksL_law_37 4 rfl rfl)
theorem dL_law_1012 : decode cL_law 1012 = .ok (.iload 4, 2) := dk_21 4 (dk_at dksL_law_37 5 rfl rfl)
theorem dL_law_1014 : decode cL_law 1014 = .ok (.iconst 1, 1) := dk_4 (dk_at dksL_law_37 7 rfl rfl)
theorem dL_law_1015 : decode cL_law 1015 = .ok (.iadd, 1) := dk_96 (dk_at dksL_law_37 8 rfl rfl)
theorem dL_law_1016 : decode cL_law 1016 = .ok (.iaload, 1) := dk_46 (dk_at dksL_law_37 9 rfl rfl)
theorem dL_law_1017 : decode cL_law 1017 = .ok (.aload_n 3, 1) := dk_45 (dk_at dksL_law_37 10 rfl rfl)
theorem dL_law_1018 : decode cL_law 1018 = .ok (.invokestatic 171, 3) := dk_184 0 171 (dk_at dksL_law_37 11 rfl rfl)
theorem dL_law_1021 : decode cL_law 1021 = .ok (.istore 5, 2) := dk_54 5 (dk_at dksL_law_37 14 rfl rfl)
theorem dL_law_1023 : decode cL_law 1023 = .ok (.aload_n 2, 1) := dk_44 (dk_at dksL_law_37 16 rfl rfl)
theorem dL_law_1024 : decode cL_law 1024 = .ok (.aload_n 0, 1) := dk_42 (dk_at dksL_law_37 17 rfl rfl)
theorem dL_law_1025 : decode cL_law 1025 = .ok (.iload 4, 2) := dk_21 4 (dk_at dksL_law_37 18 rfl rfl)
theorem dL_law_1027 : decode cL_law 1027 = .ok (.iconst 1, 1) := dk_4 (dk_at dksL_law_37 20 rfl rfl)
theorem dL_law_1028 : decode cL_law 1028 = .ok (.iadd, 1) := dk_96 (dk_at dksL_law_37 21 rfl rfl)
theorem dL_law_1029 : decode cL_law 1029 = .ok (.iaload, 1) := dk_46 (dk_at dksL_law_37 22 rfl rfl)
theorem dL_law_1030 : decode cL_law 1030 = .ok (.invokevirtual 173, 3) := dk_182 0 173 (dk_at dksL_law_38 0 rfl rfl)
theorem dL_law_1033 : decode cL_law 1033 = .ok (.istore 6, 2) := dk_54 6 (dk_at dksL_law_38 3 rfl rfl)
theorem dL_law_1035 : decode cL_law 1035 = .ok (.aload_n 2, 1) := dk_44 (dk_at dksL_law_38 5 rfl rfl)
theorem dL_law_1036 : decode cL_law 1036 = .ok (.invokevirtual 123, 3) := dk_182 0 123 (dk_at dksL_law_38 6 rfl rfl)
theorem dL_law_1039 : decode cL_law 1039 = .ok (.iload 5, 2) := dk_21 5 (dk_at dksL_law_38 9 rfl rfl)
theorem dL_law_1041 : decode cL_law 1041 = .ok (.if_icmp .eq 5, 3) := dk_159 0 5 (dk_at dksL_law_38 11 rfl rfl)
theorem dL_law_1044 : decode cL_law 1044 = .ok (.iconst 0, 1) := dk_3 (dk_at dksL_law_38 14 rfl rfl)
theorem dL_law_1045 : decode cL_law 1045 = .ok (.ireturn, 1) := dk_172 (dk_at dksL_law_38 15 rfl rfl)
theorem dL_law_1046 : decode cL_law 1046 = .ok (.iload 5, 2) := dk_21 5 (dk_at dksL_law_38 16 rfl rfl)
theorem dL_law_1048 : decode cL_law 1048 = .ok (.ifCond .ne 16, 3) := dk_154 0 16 (dk_at dksL_law_38 18 rfl rfl)
theorem dL_law_1051 : decode cL_law 1051 = .ok (.aload_n 3, 1) := dk_45 (dk_at dksL_law_38 21 rfl rfl)
theorem dL_law_1052 : decode cL_law 1052 = .ok (.getfield 13, 3) := dk_180 0 13 (dk_at dksL_law_39 0 rfl rfl)
theorem dL_law_1055 : decode cL_law 1055 = .ok (.iload 6, 2) := dk_21 6 (dk_at dksL_law_39 3 rfl rfl)
theorem dL_law_1057 : decode cL_law 1057 = .ok (.i2l, 1) := dk_133 (dk_at dksL_law_39 5 rfl rfl)
theorem dL_law_1058 : decode cL_law 1058 = .ok (.lcmp, 1) := dk_148 (dk_at dksL_law_39 6 rfl rfl)
theorem dL_law_1059 : decode cL_law 1059 = .ok (.ifCond .eq 5, 3) := dk_153 0 5 (dk_at dksL_law_39 7 rfl rfl)
theorem dL_law_1062 : decode cL_law 1062 = .ok (.iconst 0, 1) := dk_3 (dk_at dksL_law_39 10 rfl rfl)
theorem dL_law_1063 : decode cL_law 1063 = .ok (.ireturn, 1) := dk_172 (dk_at dksL_law_39 11 rfl rfl)
theorem dL_law_1064 : decode cL_law 1064 = .ok (.goto 1041, 3) := dk_167 4 17 (dk_at dksL_law_39 12 rfl rfl)
theorem dL_law_1067 : decode cL_law 1067 = .ok (.aload_n 1, 1) := dk_43 (dk_at dksL_law_39 15 rfl rfl)
theorem dL_law_1068 : decode cL_law 1068 = .ok (.invokevirtual 174, 3) := dk_182 0 174 (dk_at dksL_law_39 16 rfl rfl)
theorem dL_law_1071 : decode cL_law 1071 = .ok (.aload_n 2, 1) := dk_44 (dk_at dksL_law_39 19 rfl rfl)
theorem dL_law_1072 : decode cL_law 1072 = .ok (.invokevirtual 178, 3) := dk_182 0 178 (dk_at dksL_law_39 20 rfl rfl)
theorem dL_law_1075 : decode cL_law 1075 = .ok (.invokevirtual 179, 3) := dk_182 0 179 (dk_at dksL_law_40 0 rfl rfl)
theorem dL_law_1078 : decode cL_law 1078 = .ok (.ifCond .ne 1027, 3) := dk_154 4 3 (dk_at dksL_law_40 3 rfl rfl)
theorem dL_law_1081 : decode cL_law 1081 = .ok (.iconst 0, 1) := dk_3 (dk_at dksL_law_40 6 rfl rfl)
theorem dL_law_1082 : decode cL_law 1082 = .ok (.ireturn, 1) := dk_172 (dk_at dksL_law_40 7 rfl rfl)
theorem dL_law_1083 : decode cL_law 1083 = .ok (.aload_n 1, 1) := dk_43 (dk_at dksL_law_40 8 rfl rfl)
theorem dL_law_1084 : decode cL_law 1084 = .ok (.aload_n 0, 1) := dk_42 (dk_at dksL_law_40 9 rfl rfl)
theorem dL_law_1085 : decode cL_law 1085 = .ok (.iload 4, 2) := dk_21 4 (dk_at dksL_law_40 10 rfl rfl)
theorem dL_law_1087 : decode cL_law 1087 = .ok (.iconst 1, 1) := dk_4 (dk_at dksL_law_40 12 rfl rfl)
theorem dL_law_1088 : decode cL_law 1088 = .ok (.iadd, 1) := dk_96 (dk_at dksL_law_40 13 rfl rfl)
theorem dL_law_1089 : decode cL_law 1089 = .ok (.iaload, 1) := dk_46 (dk_at dksL_law_40 14 rfl rfl)
theorem dL_law_1090 : decode cL_law 1090 = .ok (.aload_n 3, 1) := dk_45 (dk_at dksL_law_40 15 rfl rfl)
theorem dL_law_1091 : decode cL_law 1091 = .ok (.invokestatic 185, 3) := dk_184 0 185 (dk_at dksL_law_40 16 rfl rfl)
theorem dL_law_1094 : decode cL_law 1094 = .ok (.istore 5, 2) := dk_54 5 (dk_at dksL_law_40 19 rfl rfl)
theorem dL_law_1096 : decode cL_law 1096 = .ok (.aload_n 2, 1) := dk_44 (dk_at dksL_law_40 21 rfl rfl)
theorem dL_law_1097 : decode cL_law 1097 = .ok (.aload_n 0, 1) := dk_42 (dk_at dksL_law_40 22 rfl rfl)
theorem dL_law_1098 : decode cL_law 1098 = .ok (.iload 4, 2) := dk_21 4 (dk_at dksL_law_41 0 rfl rfl)
theorem dL_law_1100 : decode cL_law 1100 = .ok (.iconst 1, 1) := dk_4 (dk_at dksL_law_41 2 rfl rfl)
theorem dL_law_1101 : decode cL_law 1101 = .ok (.iadd, 1) := dk_96 (dk_at dksL_law_41 3 rfl rfl)
theorem dL_law_1102 : decode cL_law 1102 = .ok (.iaload, 1) := dk_46 (dk_at dksL_law_41 4 rfl rfl)
theorem dL_law_1103 : decode cL_law 1103 = .ok (.invokevirtual 187, 3) := dk_182 0 187 (dk_at dksL_law_41 5 rfl rfl)
theorem dL_law_1106 : decode cL_law 1106 = .ok (.astore 6, 2) := dk_58 6 (dk_at dksL_law_41 8 rfl rfl)
theorem dL_law_1108 : decode cL_law 1108 = .ok (.aload_n 2, 1) := dk_44 (dk_at dksL_law_41 10 rfl rfl)
theorem dL_law_1109 : decode cL_law 1109 = .ok (.invokevirtual 123, 3) := dk_182 0 123 (dk_at dksL_law_41 11 rfl rfl)
theorem dL_law_1112 : decode cL_law 1112 = .ok (.iload 5, 2) := dk_21 5 (dk_at dksL_law_41 14 rfl rfl)
theorem dL_law_1114 : decode cL_law 1114 = .ok (.if_icmp .eq 5, 3) := dk_159 0 5 (dk_at dksL_law_41 16 rfl rfl)
theorem dL_law_1117 : decode cL_law 1117 = .ok (.iconst 0, 1) := dk_3 (dk_at dksL_law_41 19 rfl rfl)
theorem dL_law_1118 : decode cL_law 1118 = .ok (.ireturn, 1) := dk_172 (dk_at dksL_law_41 20 rfl rfl)
theorem dL_law_1119 : decode cL_law 1119 = .ok (.iload 5, 2) := dk_21 5 (dk_at dksL_law_41 21 rfl rfl)
theorem dL_law_1121 : decode cL_law 1121 = .ok (.ifCond .ne 17, 3) := dk_154 0 17 (dk_at dksL_law_42 0 rfl rfl)
theorem dL_law_1124 : decode cL_law 1124 = .ok (.aload_n 3, 1) := dk_45 (dk_at dksL_law_42 3 rfl rfl)
theorem dL_law_1125 : decode cL_law 1125 = .ok (.getfield 66, 3) := dk_180 0 66 (dk_at dksL_law_42 4 rfl rfl)
theorem dL_law_1128 : decode cL_law 1128 = .ok (.aload 6, 2) := dk_25 6 (dk_at dksL_law_42 7 rfl rfl)
theorem dL_law_1130 : decode cL_law 1130 = .ok (.invokevirtual 179, 3) := dk_182 0 179 (dk_at dksL_law_42 9 rfl rfl)
theorem dL_law_1133 : decode cL_law 1133 = .ok (.ifCond .ne 5, 3) := dk_154 0 5 (dk_at dksL_law_42 12 rfl rfl)
theorem dL_law_1136 : decode cL_law 1136 = .ok (.iconst 0, 1) := dk_3 (dk_at dksL_law_42 15 rfl rfl)
theorem dL_law_1137 : decode cL_law 1137 = .ok (.ireturn, 1) := dk_172 (dk_at dksL_law_42 16 rfl rfl)
theorem dL_law_1138 : decode cL_law 1138 = .ok (.goto 967, 3) := dk_167 3 199 (dk_at dksL_law_42 17 rfl rfl)
theorem dL_law_1141 : decode cL_law 1141 = .ok (.aload_n 1, 1) := dk_43 (dk_at dksL_law_42 20 rfl rfl)
theorem dL_law_1142 : decode cL_law 1142 = .ok (.aload_n 0, 1) := dk_42 (dk_at dksL_law_42 21 rfl rfl)
theorem dL_law_1143 : decode cL_law 1143 = .ok (.iload 4, 2) := dk_21 4 (dk_at dksL_law_42 22 rfl rfl)
theorem dL_law_1145 : decode cL_law 1145 = .ok (.iconst 1, 1) := dk_4 (dk_at dksL_law_43 0 rfl rfl)
theorem dL_law_1146 : decode cL_law 1146 = .ok (.iadd, 1) := dk_96 (dk_at dksL_law_43 1 rfl rfl)
theorem dL_law_1147 : decode cL_law 1147 = .ok (.iaload, 1) := dk_46 (dk_at dksL_law_43 2 rfl rfl)
theorem dL_law_1148 : decode cL_law 1148 = .ok (.aload_n 0, 1) := dk_42 (dk_at dksL_law_43 3 rfl rfl)
theorem dL_law_1149 : decode cL_law 1149 = .ok (.iload 4, 2) := dk_21 4 (dk_at dksL_law_43 4 rfl rfl)
theorem dL_law_1151 : decode cL_law 1151 = .ok (.iconst 2, 1) := dk_5 (dk_at dksL_law_43 6 rfl rfl)
theorem dL_law_1152 : decode cL_law 1152 = .ok (.iadd, 1) := dk_96 (dk_at dksL_law_43 7 rfl rfl)
theorem dL_law_1153 : decode cL_law 1153 = .ok (.iaload, 1) := dk_46 (dk_at dksL_law_43 8 rfl rfl)
theorem dL_law_1154 : decode cL_law 1154 = .ok (.ifCond .eq 7, 3) := dk_153 0 7 (dk_at dksL_law_43 9 rfl rfl)
theorem dL_law_1157 : decode cL_law 1157 = .ok (.iconst 1, 1) := dk_4 (dk_at dksL_law_43 12 rfl rfl)
theorem dL_law_1158 : decode cL_law 1158 = .ok (.goto 4, 3) := dk_167 0 4 (dk_at dksL_law_43 13 rfl rfl)
theorem dL_law_1161 : decode cL_law 1161 = .ok (.iconst 0, 1) := dk_3 (dk_at dksL_law_43 16 rfl rfl)
theorem dL_law_1162 : decode cL_law 1162 = .ok (.aload_n 3, 1) := dk_45 (dk_at dksL_law_43 17 rfl rfl)
theorem dL_law_1163 : decode cL_law 1163 = .ok (.invokestatic 188, 3) := dk_184 0 188 (dk_at dksL_law_43 18 rfl rfl)
theorem dL_law_1166 : decode cL_law 1166 = .ok (.istore 5, 2) := dk_54 5 (dk_at dksL_law_43 21 rfl rfl)
theorem dL_law_1168 : decode cL_law 1168 = .ok (.aload_n 2, 1) := dk_44 (dk_at dksL_law_43 23 rfl rfl)
theorem dL_law_1169 : decode cL_law 1169 = .ok (.aload_n 0, 1) := dk_42 (dk_at dksL_law_44 0 rfl rfl)
theorem dL_law_1170 : decode cL_law 1170 = .ok (.iload 4, 2) := dk_21 4 (dk_at dksL_law_44 1 rfl rfl)
theorem dL_law_1172 : decode cL_law 1172 = .ok (.iconst 1, 1) := dk_4 (dk_at dksL_law_44 3 rfl rfl)
theorem dL_law_1173 : decode cL_law 1173 = .ok (.iadd, 1) := dk_96 (dk_at dksL_law_44 4 rfl rfl)
theorem dL_law_1174 : decode cL_law 1174 = .ok (.iaload, 1) := dk_46 (dk_at dksL_law_44 5 rfl rfl)
theorem dL_law_1175 : decode cL_law 1175 = .ok (.aload_n 0, 1) := dk_42 (dk_at dksL_law_44 6 rfl rfl)
theorem dL_law_1176 : decode cL_law 1176 = .ok (.iload 4, 2) := dk_21 4 (dk_at dksL_law_44 7 rfl rfl)
theorem dL_law_1178 : decode cL_law 1178 = .ok (.iconst 2, 1) := dk_5 (dk_at dksL_law_44 9 rfl rfl)
theorem dL_law_1179 : decode cL_law 1179 = .ok (.iadd, 1) := dk_96 (dk_at dksL_law_44 10 rfl rfl)
theorem dL_law_1180 : decode cL_law 1180 = .ok (.iaload, 1) := dk_46 (dk_at dksL_law_44 11 rfl rfl)
theorem dL_law_1181 : decode cL_law 1181 = .ok (.ifCond .eq 7, 3) := dk_153 0 7 (dk_at dksL_law_44 12 rfl rfl)
theorem dL_law_1184 : decode cL_law 1184 = .ok (.iconst 1, 1) := dk_4 (dk_at dksL_law_44 15 rfl rfl)
theorem dL_law_1185 : decode cL_law 1185 = .ok (.goto 4, 3) := dk_167 0 4 (dk_at dksL_law_44 16 rfl rfl)
theorem dL_law_1188 : decode cL_law 1188 = .ok (.iconst 0, 1) := dk_3 (dk_at dksL_law_44 19 rfl rfl)
theorem dL_law_1189 : decode cL_law 1189 = .ok (.invokevirtual 191, 3) := dk_182 0 191 (dk_at dksL_law_44 20 rfl rfl)
theorem dL_law_1192 : decode cL_law 1192 = .ok (.istore 6, 2) := dk_54 6 (dk_at dksL_law_45 0 rfl rfl)
theorem dL_law_1194 : decode cL_law 1194 = .ok (.aload_n 2, 1) := dk_44 (dk_at dksL_law_45 2 rfl rfl)
theorem dL_law_1195 : decode cL_law 1195 = .ok (.invokevirtual 123, 3) := dk_182 0 123 (dk_at dksL_law_45 3 rfl rfl)
theorem dL_law_1198 : decode cL_law 1198 = .ok (.iload 5, 2) := dk_21 5 (dk_at dksL_law_45 6 rfl rfl)
theorem dL_law_1200 : decode cL_law 1200 = .ok (.if_icmp .eq 5, 3) := dk_159 0 5 (dk_at dksL_law_45 8 rfl rfl)
theorem dL_law_1203 : decode cL_law 1203 = .ok (.iconst 0, 1) := dk_3 (dk_at dksL_law_45 11 rfl rfl)
theorem dL_law_1204 : decode cL_law 1204 = .ok (.ireturn, 1) := dk_172 (dk_at dksL_law_45 12 rfl rfl)
theorem dL_law_1205 : decode cL_law 1205 = .ok (.iload 5, 2) := dk_21 5 (dk_at dksL_law_45 13 rfl rfl)
theorem dL_law_1207 : decode cL_law 1207 = .ok (.ifCond .ne 23, 3) := dk_154 0 23 (dk_at dksL_law_45 15 rfl rfl)
theorem dL_law_1210 : decode cL_law 1210 = .ok (.aload_n 3, 1) := dk_45 (dk_at dksL_law_45 18 rfl rfl)
theorem dL_law_1211 : decode cL_law 1211 = .ok (.getfield 13, 3) := dk_180 0 13 (dk_at dksL_law_45 19 rfl rfl)
theorem dL_law_1214 : decode cL_law 1214 = .ok (.iload 6, 2) := dk_21 6 (dk_at dksL_law_45 22 rfl rfl)
theorem dL_law_1216 : decode cL_law 1216 = .ok (.ifCond .eq 7, 3) := dk_153 0 7 (dk_at dksL_law_46 0 rfl rfl)
theorem dL_law_1219 : decode cL_law 1219 = .ok (.lconst 1, 1) := dk_10 (dk_at dksL_law_46 3 rfl rfl)
theorem dL_law_1220 : decode cL_law 1220 = .ok (.goto 4, 3) := dk_167 0 4 (dk_at dksL_law_46 4 rfl rfl)
theorem dL_law_1223 : decode cL_law 1223 = .ok (.lconst 0, 1) := dk_9 (dk_at dksL_law_46 7 rfl rfl)
theorem dL_law_1224 : decode cL_law 1224 = .ok (.lcmp, 1) := dk_148 (dk_at dksL_law_46 8 rfl rfl)
theorem dL_law_1225 : decode cL_law 1225 = .ok (.ifCond .eq 5, 3) := dk_153 0 5 (dk_at dksL_law_46 9 rfl rfl)
theorem dL_law_1228 : decode cL_law 1228 = .ok (.iconst 0, 1) := dk_3 (dk_at dksL_law_46 12 rfl rfl)
theorem dL_law_1229 : decode cL_law 1229 = .ok (.ireturn, 1) := dk_172 (dk_at dksL_law_46 13 rfl rfl)
theorem dL_law_1230 : decode cL_law 1230 = .ok (.goto 875, 3) := dk_167 3 107 (dk_at dksL_law_46 14 rfl rfl)
theorem dL_law_1233 : decode cL_law 1233 = .ok (.aload_n 1, 1) := dk_43 (dk_at dksL_law_46 17 rfl rfl)
theorem dL_law_1234 : decode cL_law 1234 = .ok (.invokevirtual 192, 3) := dk_182 0 192 (dk_at dksL_law_46 18 rfl rfl)
theorem dL_law_1237 : decode cL_law 1237 = .ok (.aload_n 2, 1) := dk_44 (dk_at dksL_law_46 21 rfl rfl)
theorem dL_law_1238 : decode cL_law 1238 = .ok (.invokevirtual 195, 3) := dk_182 0 195 (dk_at dksL_law_47 0 rfl rfl)
theorem dL_law_1241 : decode cL_law 1241 = .ok (.if_icmp .eq 864, 3) := dk_159 3 96 (dk_at dksL_law_47 3 rfl rfl)
theorem dL_law_1244 : decode cL_law 1244 = .ok (.iconst 0, 1) := dk_3 (dk_at dksL_law_47 6 rfl rfl)
theorem dL_law_1245 : decode cL_law 1245 = .ok (.ireturn, 1) := dk_172 (dk_at dksL_law_47 7 rfl rfl)
theorem dL_law_1246 : decode cL_law 1246 = .ok (.aload_n 1, 1) := dk_43 (dk_at dksL_law_47 8 rfl rfl)
theorem dL_law_1247 : decode cL_law 1247 = .ok (.aload_n 0, 1) := dk_42 (dk_at dksL_law_47 9 rfl rfl)
theorem dL_law_1248 : decode cL_law 1248 = .ok (.iload 4, 2) := dk_21 4 (dk_at dksL_law_47 10 rfl rfl)
theorem dL_law_1250 : decode cL_law 1250 = .ok (.iconst 1, 1) := dk_4 (dk_at dksL_law_47 12 rfl rfl)
theorem dL_law_1251 : decode cL_law 1251 = .ok (.iadd, 1) := dk_96 (dk_at dksL_law_47 13 rfl rfl)
theorem dL_law_1252 : decode cL_law 1252 = .ok (.iaload, 1) := dk_46 (dk_at dksL_law_47 14 rfl rfl)
theorem dL_law_1253 : decode cL_law 1253 = .ok (.aload_n 3, 1) := dk_45 (dk_at dksL_law_47 15 rfl rfl)
theorem dL_law_1254 : decode cL_law 1254 = .ok (.invokestatic 196, 3) := dk_184 0 196 (dk_at dksL_law_47 16 rfl rfl)
theorem dL_law_1257 : decode cL_law 1257 = .ok (.istore 5, 2) := dk_54 5 (dk_at dksL_law_47 19 rfl rfl)
theorem dL_law_1259 : decode cL_law 1259 = .ok (.aload_n 2, 1) := dk_44 (dk_at dksL_law_47 21 rfl rfl)
theorem dL_law_1260 : decode cL_law 1260 = .ok (.aload_n 0, 1) := dk_42 (dk_at dksL_law_47 22 rfl rfl)
theorem dL_law_1261 : decode cL_law 1261 = .ok (.iload 4, 2) := dk_21 4 (dk_at dksL_law_48 0 rfl rfl)
theorem dL_law_1263 : decode cL_law 1263 = .ok (.iconst 1, 1) := dk_4 (dk_at dksL_law_48 2 rfl rfl)
theorem dL_law_1264 : decode cL_law 1264 = .ok (.iadd, 1) := dk_96 (dk_at dksL_law_48 3 rfl rfl)
theorem dL_law_1265 : decode cL_law 1265 = .ok (.iaload, 1) := dk_46 (dk_at dksL_law_48 4 rfl rfl)
theorem dL_law_1266 : decode cL_law 1266 = .ok (.invokevirtual 198, 3) := dk_182 0 198 (dk_at dksL_law_48 5 rfl rfl)
theorem dL_law_1269 : decode cL_law 1269 = .ok (.istore 6, 2) := dk_54 6 (dk_at dksL_law_48 8 rfl rfl)
theorem dL_law_1271 : decode cL_law 1271 = .ok (.aload_n 2, 1) := dk_44 (dk_at dksL_law_48 10 rfl rfl)
theorem dL_law_1272 : decode cL_law 1272 = .ok (.invokevirtual 123, 3) := dk_182 0 123 (dk_at dksL_law_48 11 rfl rfl)
theorem dL_law_1275 : decode cL_law 1275 = .ok (.iload 5, 2) := dk_21 5 (dk_at dksL_law_48 14 rfl rfl)
theorem dL_law_1277 : decode cL_law 1277 = .ok (.if_icmp .eq 5, 3) := dk_159 0 5 (dk_at dksL_law_48 16 rfl rfl)
theorem dL_law_1280 : decode cL_law 1280 = .ok (.iconst 0, 1) := dk_3 (dk_at dksL_law_48 19 rfl rfl)
theorem dL_law_1281 : decode cL_law 1281 = .ok (.ireturn, 1) := dk_172 (dk_at dksL_law_48 20 rfl rfl)
theorem dL_law_1282 : decode cL_law 1282 = .ok (.iload 5, 2) := dk_21 5 (dk_at dksL_law_48 21 rfl rfl)
theorem dL_law_1284 : decode cL_law 1284 = .ok (.ifCond .ne 16, 3) := dk_154 0 16 (dk_at dksL_law_49 0 rfl rfl)
theorem dL_law_1287 : decode cL_law 1287 = .ok (.aload_n 3, 1) := dk_45 (dk_at dksL_law_49 3 rfl rfl)
theorem dL_law_1288 : decode cL_law 1288 = .ok (.getfield 13, 3) := dk_180 0 13 (dk_at dksL_law_49 4 rfl rfl)
theorem dL_law_1291 : decode cL_law 1291 = .ok (.iload 6, 2) := dk_21 6 (dk_at dksL_law_49 7 rfl rfl)
theorem dL_law_1293 : decode cL_law 1293 = .ok (.i2l, 1) := dk_133 (dk_at dksL_law_49 9 rfl rfl)
theorem dL_law_1294 : decode cL_law 1294 = .ok (.lcmp, 1) := dk_148 (dk_at dksL_law_49 10 rfl rfl)
theorem dL_law_1295 : decode cL_law 1295 = .ok (.ifCond .eq 5, 3) := dk_153 0 5 (dk_at dksL_law_49 11 rfl rfl)
theorem dL_law_1298 : decode cL_law 1298 = .ok (.iconst 0, 1) := dk_3 (dk_at dksL_law_49 14 rfl rfl)
theorem dL_law_1299 : decode cL_law 1299 = .ok (.ireturn, 1) := dk_172 (dk_at dksL_law_49 15 rfl rfl)
theorem dL_law_1300 : decode cL_law 1300 = .ok (.goto 805, 3) := dk_167 3 37 (dk_at dksL_law_49 16 rfl rfl)
theorem dL_law_1303 : decode cL_law 1303 = .ok (.aload_n 1, 1) := dk_43 (dk_at dksL_law_49 19 rfl rfl)
theorem dL_law_1304 : decode cL_law 1304 = .ok (.aload_n 0, 1) := dk_42 (dk_at dksL_law_49 20 rfl rfl)
theorem dL_law_1305 : decode cL_law 1305 = .ok (.iload 4, 2) := dk_21 4 (dk_at dksL_law_49 21 rfl rfl)
theorem dL_law_1307 : decode cL_law 1307 = .ok (.iconst 1, 1) := dk_4 (dk_at dksL_law_49 23 rfl rfl)
theorem dL_law_1308 : decode cL_law 1308 = .ok (.iadd, 1) := dk_96 (dk_at dksL_law_50 0 rfl rfl)
theorem dL_law_1309 : decode cL_law 1309 = .ok (.iaload, 1) := dk_46 (dk_at dksL_law_50 1 rfl rfl)
theorem dL_law_1310 : decode cL_law 1310 = .ok (.aload_n 0, 1) := dk_42 (dk_at dksL_law_50 2 rfl rfl)
theorem dL_law_1311 : decode cL_law 1311 = .ok (.iload 4, 2) := dk_21 4 (dk_at dksL_law_50 3 rfl rfl)
theorem dL_law_1313 : decode cL_law 1313 = .ok (.iconst 2, 1) := dk_5 (dk_at dksL_law_50 5 rfl rfl)
theorem dL_law_1314 : decode cL_law 1314 = .ok (.iadd, 1) := dk_96 (dk_at dksL_law_50 6 rfl rfl)
theorem dL_law_1315 : decode cL_law 1315 = .ok (.iaload, 1) := dk_46 (dk_at dksL_law_50 7 rfl rfl)
theorem dL_law_1316 : decode cL_law 1316 = .ok (.aload_n 3, 1) := dk_45 (dk_at dksL_law_50 8 rfl rfl)
theorem dL_law_1317 : decode cL_law 1317 = .ok (.invokestatic 199, 3) := dk_184 0 199 (dk_at dksL_law_50 9 rfl rfl)
theorem dL_law_1320 : decode cL_law 1320 = .ok (.istore 5, 2) := dk_54 5 (dk_at dksL_law_50 12 rfl rfl)
theorem dL_law_1322 : decode cL_law 1322 = .ok (.aload_n 2, 1) := dk_44 (dk_at dksL_law_50 14 rfl rfl)
theorem dL_law_1323 : decode cL_law 1323 = .ok (.aload_n 0, 1) := dk_42 (dk_at dksL_law_50 15 rfl rfl)
theorem dL_law_1324 : decode cL_law 1324 = .ok (.iload 4, 2) := dk_21 4 (dk_at dksL_law_50 16 rfl rfl)
theorem dL_law_1326 : decode cL_law 1326 = .ok (.iconst 1, 1) := dk_4 (dk_at dksL_law_50 18 rfl rfl)
theorem dL_law_1327 : decode cL_law 1327 = .ok (.iadd, 1) := dk_96 (dk_at dksL_law_50 19 rfl rfl)
theorem dL_law_1328 : decode cL_law 1328 = .ok (.iaload, 1) := dk_46 (dk_at dksL_law_50 20 rfl rfl)
theorem dL_law_1329 : decode cL_law 1329 = .ok (.aload_n 0, 1) := dk_42 (dk_at dksL_law_50 21 rfl rfl)
theorem dL_law_1330 : decode cL_law 1330 = .ok (.iload 4, 2) := dk_21 4 (dk_at dksL_law_50 22 rfl rfl)
theorem dL_law_1332 : decode cL_law 1332 = .ok (.iconst 2, 1) := dk_5 (dk_at dksL_law_51 0 rfl rfl)
theorem dL_law_1333 : decode cL_law 1333 = .ok (.iadd, 1) := dk_96 (dk_at dksL_law_51 1 rfl rfl)
theorem dL_law_1334 : decode cL_law 1334 = .ok (.iaload, 1) := dk_46 (dk_at dksL_law_51 2 rfl rfl)
theorem dL_law_1335 : decode cL_law 1335 = .ok (.invokevirtual 201, 3) := dk_182 0 201 (dk_at dksL_law_51 3 rfl rfl)
theorem dL_law_1338 : decode cL_law 1338 = .ok (.istore 6, 2) := dk_54 6 (dk_at dksL_law_51 6 rfl rfl)
theorem dL_law_1340 : decode cL_law 1340 = .ok (.aload_n 2, 1) := dk_44 (dk_at dksL_law_51 8 rfl rfl)
theorem dL_law_1341 : decode cL_law 1341 = .ok (.invokevirtual 123, 3) := dk_182 0 123 (dk_at dksL_law_51 9 rfl rfl)
theorem dL_law_1344 : decode cL_law 1344 = .ok (.iload 5, 2) := dk_21 5 (dk_at dksL_law_51 12 rfl rfl)
theorem dL_law_1346 : decode cL_law 1346 = .ok (.if_icmp .eq 5, 3) := dk_159 0 5 (dk_at dksL_law_51 14 rfl rfl)
theorem dL_law_1349 : decode cL_law 1349 = .ok (.iconst 0, 1) := dk_3 (dk_at dksL_law_51 17 rfl rfl)
theorem dL_law_1350 : decode cL_law 1350 = .ok (.ireturn, 1) := dk_172 (dk_at dksL_law_51 18 rfl rfl)
theorem dL_law_1351 : decode cL_law 1351 = .ok (.iload 5, 2) := dk_21 5 (dk_at dksL_law_51 19 rfl rfl)
theorem dL_law_1353 : decode cL_law 1353 = .ok (.ifCond .ne 23, 3) := dk_154 0 23 (dk_at dksL_law_51 21 rfl rfl)
theorem dL_law_1356 : decode cL_law 1356 = .ok (.aload_n 3, 1) := dk_45 (dk_at dksL_law_52 0 rfl rfl)
theorem dL_law_1357 : decode cL_law 1357 = .ok (.getfield 13, 3) := dk_180 0 13 (dk_at dksL_law_52 1 rfl rfl)
theorem dL_law_1360 : decode cL_law 1360 = .ok (.iload 6, 2) := dk_21 6 (dk_at dksL_law_52 4 rfl rfl)
theorem dL_law_1362 : decode cL_law 1362 = .ok (.ifCond .eq 7, 3) := dk_153 0 7 (dk_at dksL_law_52 6 rfl rfl)
theorem dL_law_1365 : decode cL_law 1365 = .ok (.lconst 1, 1) := dk_10 (dk_at dksL_law_52 9 rfl rfl)
theorem dL_law_1366 : decode cL_law 1366 = .ok (.goto 4, 3) := dk_167 0 4 (dk_at dksL_law_52 10 rfl rfl)
theorem dL_law_1369 : decode cL_law 1369 = .ok (.lconst 0, 1) := dk_9 (dk_at dksL_law_52 13 rfl rfl)
theorem dL_law_1370 : decode cL_law 1370 = .ok (.lcmp, 1) := dk_148 (dk_at dksL_law_52 14 rfl rfl)
theorem dL_law_1371 : decode cL_law 1371 = .ok (.ifCond .eq 5, 3) := dk_153 0 5 (dk_at dksL_law_52 15 rfl rfl)
theorem dL_law_1374 : decode cL_law 1374 = .ok (.iconst 0, 1) := dk_3 (dk_at dksL_law_52 18 rfl rfl)
theorem dL_law_1375 : decode cL_law 1375 = .ok (.ireturn, 1) := dk_172 (dk_at dksL_law_52 19 rfl rfl)
theorem dL_law_1376 : decode cL_law 1376 = .ok (.goto 729, 3) := dk_167 2 217 (dk_at dksL_law_52 20 rfl rfl)
theorem dL_law_1379 : decode cL_law 1379 = .ok (.aload_n 1, 1) := dk_43 (dk_at dksL_law_52 23 rfl rfl)
theorem dL_law_1380 : decode cL_law 1380 = .ok (.invokevirtual 202, 3) := dk_182 0 202 (dk_at dksL_law_53 0 rfl rfl)
theorem dL_law_1383 : decode cL_law 1383 = .ok (.aload_n 2, 1) := dk_44 (dk_at dksL_law_53 3 rfl rfl)
theorem dL_law_1384 : decode cL_law 1384 = .ok (.invokevirtual 205, 3) := dk_182 0 205 (dk_at dksL_law_53 4 rfl rfl)
theorem dL_law_1387 : decode cL_law 1387 = .ok (.if_icmp .eq 718, 3) := dk_159 2 206 (dk_at dksL_law_53 7 rfl rfl)
theorem dL_law_1390 : decode cL_law 1390 = .ok (.iconst 0, 1) := dk_3 (dk_at dksL_law_53 10 rfl rfl)
theorem dL_law_1391 : decode cL_law 1391 = .ok (.ireturn, 1) := dk_172 (dk_at dksL_law_53 11 rfl rfl)
theorem dL_law_1392 : decode cL_law 1392 = .ok (.aload_n 1, 1) := dk_43 (dk_at dksL_law_53 12 rfl rfl)
theorem dL_law_1393 : decode cL_law 1393 = .ok (.aload_n 0, 1) := dk_42 (dk_at dksL_law_53 13 rfl rfl)
theorem dL_law_1394 : decode cL_law 1394 = .ok (.iload 4, 2) := dk_21 4 (dk_at dksL_law_53 14 rfl rfl)
theorem dL_law_1396 : decode cL_law 1396 = .ok (.iconst 1, 1) := dk_4 (dk_at dksL_law_53 16 rfl rfl)
theorem dL_law_1397 : decode cL_law 1397 = .ok (.iadd, 1) := dk_96 (dk_at dksL_law_53 17 rfl rfl)
theorem dL_law_1398 : decode cL_law 1398 = .ok (.iaload, 1) := dk_46 (dk_at dksL_law_53 18 rfl rfl)
theorem dL_law_1399 : decode cL_law 1399 = .ok (.aload_n 3, 1) := dk_45 (dk_at dksL_law_53 19 rfl rfl)
theorem dL_law_1400 : decode cL_law 1400 = .ok (.invokestatic 206, 3) := dk_184 0 206 (dk_at dksL_law_53 20 rfl rfl)
theorem dL_law_1403 : decode cL_law 1403 = .ok (.istore 5, 2) := dk_54 5 (dk_at dksL_law_54 0 rfl rfl)
theorem dL_law_1405 : decode cL_law 1405 = .ok (.aload_n 2, 1) := dk_44 (dk_at dksL_law_54 2 rfl rfl)
theorem dL_law_1406 : decode cL_law 1406 = .ok (.aload_n 0, 1) := dk_42 (dk_at dksL_law_54 3 rfl rfl)
theorem dL_law_1407 : decode cL_law 1407 = .ok (.iload 4, 2) := dk_21 4 (dk_at dksL_law_54 4 rfl rfl)
theorem dL_law_1409 : decode cL_law 1409 = .ok (.iconst 1, 1) := dk_4 (dk_at dksL_law_54 6 rfl rfl)
theorem dL_law_1410 : decode cL_law 1410 = .ok (.iadd, 1) := dk_96 (dk_at dksL_law_54 7 rfl rfl)
theorem dL_law_1411 : decode cL_law 1411 = .ok (.iaload, 1) := dk_46 (dk_at dksL_law_54 8 rfl rfl)
theorem dL_law_1412 : decode cL_law 1412 = .ok (.invokevirtual 208, 3) := dk_182 0 208 (dk_at dksL_law_54 9 rfl rfl)
theorem dL_law_1415 : decode cL_law 1415 = .ok (.astore 6, 2) := dk_58 6 (dk_at dksL_law_54 12 rfl rfl)
theorem dL_law_1417 : decode cL_law 1417 = .ok (.aload_n 2, 1) := dk_44 (dk_at dksL_law_54 14 rfl rfl)
theorem dL_law_1418 : decode cL_law 1418 = .ok (.invokevirtual 123, 3) := dk_182 0 123 (dk_at dksL_law_54 15 rfl rfl)
theorem dL_law_1421 : decode cL_law 1421 = .ok (.iload 5, 2) := dk_21 5 (dk_at dksL_law_54 18 rfl rfl)
theorem dL_law_1423 : decode cL_law 1423 = .ok (.if_icmp .eq 5, 3) := dk_159 0 5 (dk_at dksL_law_54 20 rfl rfl)
theorem dL_law_1426 : decode cL_law 1426 = .ok (.iconst 0, 1) := dk_3 (dk_at dksL_law_54 23 rfl rfl)
theorem dL_law_1427 : decode cL_law 1427 = .ok (.ireturn, 1) := dk_172 (dk_at dksL_law_55 0 rfl rfl)
theorem dL_law_1428 : decode cL_law 1428 = .ok (.iload 5, 2) := dk_21 5 (dk_at dksL_law_55 1 rfl rfl)
theorem dL_law_1430 : decode cL_law 1430 = .ok (.ifCond .ne 17, 3) := dk_154 0 17 (dk_at dksL_law_55 3 rfl rfl)
theorem dL_law_1433 : decode cL_law 1433 = .ok (.aload_n 3, 1) := dk_45 (dk_at dksL_law_55 6 rfl rfl)
theorem dL_law_1434 : decode cL_law 1434 = .ok (.getfield 66, 3) := dk_180 0 66 (dk_at dksL_law_55 7 rfl rfl)
theorem dL_law_1437 : decode cL_law 1437 = .ok (.aload 6, 2) := dk_25 6 (dk_at dksL_law_55 10 rfl rfl)
theorem dL_law_1439 : decode cL_law 1439 = .ok (.invokevirtual 179, 3) := dk_182 0 179 (dk_at dksL_law_55 12 rfl rfl)
theorem dL_law_1442 : decode cL_law 1442 = .ok (.ifCond .ne 5, 3) := dk_154 0 5 (dk_at dksL_law_55 15 rfl rfl)
theorem dL_law_1445 : decode cL_law 1445 = .ok (.iconst 0, 1) := dk_3 (dk_at dksL_law_55 18 rfl rfl)
theorem dL_law_1446 : decode cL_law 1446 = .ok (.ireturn, 1) := dk_172 (dk_at dksL_law_55 19 rfl rfl)
theorem dL_law_1447 : decode cL_law 1447 = .ok (.goto 658, 3) := dk_167 2 146 (dk_at dksL_law_55 20 rfl rfl)
theorem dL_law_1450 : decode cL_law 1450 = .ok (.aload_n 1, 1) := dk_43 (dk_at dksL_law_55 23 rfl rfl)
theorem dL_law_1451 : decode cL_law 1451 = .ok (.aload_n 0, 1) := dk_42 (dk_at dksL_law_56 0 rfl rfl)
theorem dL_law_1452 : decode cL_law 1452 = .ok (.iload 4, 2) := dk_21 4 (dk_at dksL_law_56 1 rfl rfl)
theorem dL_law_1454 : decode cL_law 1454 = .ok (.iconst 1, 1) := dk_4 (dk_at dksL_law_56 3 rfl rfl)
theorem dL_law_1455 : decode cL_law 1455 = .ok (.iadd, 1) := dk_96 (dk_at dksL_law_56 4 rfl rfl)
theorem dL_law_1456 : decode cL_law 1456 = .ok (.iaload, 1) := dk_46 (dk_at dksL_law_56 5 rfl rfl)
theorem dL_law_1457 : decode cL_law 1457 = .ok (.aload_n 3, 1) := dk_45 (dk_at dksL_law_56 6 rfl rfl)
theorem dL_law_1458 : decode cL_law 1458 = .ok (.invokestatic 209, 3) := dk_184 0 209 (dk_at dksL_law_56 7 rfl rfl)
theorem dL_law_1461 : decode cL_law 1461 = .ok (.istore 5, 2) := dk_54 5 (dk_at dksL_law_56 10 rfl rfl)
theorem dL_law_1463 : decode cL_law 1463 = .ok (.aload_n 2, 1) := dk_44 (dk_at dksL_law_56 12 rfl rfl)
theorem dL_law_1464 : decode cL_law 1464 = .ok (.aload_n 0, 1) := dk_42 (dk_at dksL_law_56 13 rfl rfl)
theorem dL_law_1465 : decode cL_law 1465 = .ok (.iload 4, 2) := dk_21 4 (dk_at dksL_law_56 14 rfl rfl)
theorem dL_law_1467 : decode cL_law 1467 = .ok (.iconst 1, 1) := dk_4 (dk_at dksL_law_56 16 rfl rfl)
theorem dL_law_1468 : decode cL_law 1468 = .ok (.iadd, 1) := dk_96 (dk_at dksL_law_56 17 rfl rfl)
theorem dL_law_1469 : decode cL_law 1469 = .ok (.iaload, 1) := dk_46 (dk_at dksL_law_56 18 rfl rfl)
theorem dL_law_1470 : decode cL_law 1470 = .ok (.invokevirtual 211, 3) := dk_182 0 211 (dk_at dksL_law_56 19 rfl rfl)
theorem dL_law_1473 : decode cL_law 1473 = .ok (.istore 6, 2) := dk_54 6 (dk_at dksL_law_56 22 rfl rfl)
theorem dL_law_1475 : decode cL_law 1475 = .ok (.aload_n 2, 1) := dk_44 (dk_at dksL_law_57 0 rfl rfl)
theorem dL_law_1476 : decode cL_law 1476 = .ok (.invokevirtual 123, 3) := dk_182 0 123 (dk_at dksL_law_57 1 rfl rfl)
theorem dL_law_1479 : decode cL_law 1479 = .ok (.iload 5, 2) := dk_21 5 (dk_at dksL_law_57 4 rfl rfl)
theorem dL_law_1481 : decode cL_law 1481 = .ok (.if_icmp .eq 5, 3) := dk_159 0 5 (dk_at dksL_law_57 6 rfl rfl)
theorem dL_law_1484 : decode cL_law 1484 = .ok (.iconst 0, 1) := dk_3 (dk_at dksL_law_57 9 rfl rfl)
theorem dL_law_1485 : decode cL_law 1485 = .ok (.ireturn, 1) := dk_172 (dk_at dksL_law_57 10 rfl rfl)
theorem dL_law_1486 : decode cL_law 1486 = .ok (.iload 5, 2) := dk_21 5 (dk_at dksL_law_57 11 rfl rfl)
theorem dL_law_1488 : decode cL_law 1488 = .ok (.ifCond .ne 16, 3) := dk_154 0 16 (dk_at dksL_law_57 13 rfl rfl)
theorem dL_law_1491 : decode cL_law 1491 = .ok (.aload_n 3, 1) := dk_45 (dk_at dksL_law_57 16 rfl rfl)
theorem dL_law_1492 : decode cL_law 1492 = .ok (.getfield 13, 3) := dk_180 0 13 (dk_at dksL_law_57 17 rfl rfl)
theorem dL_law_1495 : decode cL_law 1495 = .ok (.iload 6, 2) := dk_21 6 (dk_at dksL_law_57 20 rfl rfl)
theorem dL_law_1497 : decode cL_law 1497 = .ok (.i2l, 1) := dk_133 (dk_at dksL_law_57 22 rfl rfl)
theorem dL_law_1498 : decode cL_law 1498 = .ok (.lcmp, 1) := dk_148 (dk_at dksL_law_57 23 rfl rfl)
theorem dL_law_1499 : decode cL_law 1499 = .ok (.ifCond .eq 5, 3) := dk_153 0 5 (dk_at dksL_law_58 0 rfl rfl)
theorem dL_law_1502 : decode cL_law 1502 = .ok (.iconst 0, 1) := dk_3 (dk_at dksL_law_58 3 rfl rfl)
theorem dL_law_1503 : decode cL_law 1503 = .ok (.ireturn, 1) := dk_172 (dk_at dksL_law_58 4 rfl rfl)
theorem dL_law_1504 : decode cL_law 1504 = .ok (.goto 601, 3) := dk_167 2 89 (dk_at dksL_law_58 5 rfl rfl)
theorem dL_law_1507 : decode cL_law 1507 = .ok (.aload_n 1, 1) := dk_43 (dk_at dksL_law_58 8 rfl rfl)
theorem dL_law_1508 : decode cL_law 1508 = .ok (.aload_n 0, 1) := dk_42 (dk_at dksL_law_58 9 rfl rfl)
theorem dL_law_1509 : decode cL_law 1509 = .ok (.iload 4, 2) := dk_21 4 (dk_at dksL_law_58 10 rfl rfl)
theorem dL_law_1511 : decode cL_law 1511 = .ok (.iconst 1, 1) := dk_4 (dk_at dksL_law_58 12 rfl rfl)
theorem dL_law_1512 : decode cL_law 1512 = .ok (.iadd, 1) := dk_96 (dk_at dksL_law_58 13 rfl rfl)
theorem dL_law_1513 : decode cL_law 1513 = .ok (.iaload, 1) := dk_46 (dk_at dksL_law_58 14 rfl rfl)
theorem dL_law_1514 : decode cL_law 1514 = .ok (.aload_n 0, 1) := dk_42 (dk_at dksL_law_58 15 rfl rfl)
theorem dL_law_1515 : decode cL_law 1515 = .ok (.iload 4, 2) := dk_21 4 (dk_at dksL_law_58 16 rfl rfl)
theorem dL_law_1517 : decode cL_law 1517 = .ok (.iconst 2, 1) := dk_5 (dk_at dksL_law_58 18 rfl rfl)
theorem dL_law_1518 : decode cL_law 1518 = .ok (.iadd, 1) := dk_96 (dk_at dksL_law_58 19 rfl rfl)
theorem dL_law_1519 : decode cL_law 1519 = .ok (.iaload, 1) := dk_46 (dk_at dksL_law_58 20 rfl rfl)
theorem dL_law_1520 : decode cL_law 1520 = .ok (.aload_n 3, 1) := dk_45 (dk_at dksL_law_58 21 rfl rfl)
theorem dL_law_1521 : decode cL_law 1521 = .ok (.invokestatic 212, 3) := dk_184 0 212 (dk_at dksL_law_59 0 rfl rfl)
theorem dL_law_1524 : decode cL_law 1524 = .ok (.istore 5, 2) := dk_54 5 (dk_at dksL_law_59 3 rfl rfl)
theorem dL_law_1526 : decode cL_law 1526 = .ok (.aload_n 2, 1) := dk_44 (dk_at dksL_law_59 5 rfl rfl)
theorem dL_law_1527 : decode cL_law 1527 = .ok (.aload_n 0, 1) := dk_42 (dk_at dksL_law_59 6 rfl rfl)
theorem dL_law_1528 : decode cL_law 1528 = .ok (.iload 4, 2) := dk_21 4 (dk_at dksL_law_59 7 rfl rfl)
theorem dL_law_1530 : decode cL_law 1530 = .ok (.iconst 1, 1) := dk_4 (dk_at dksL_law_59 9 rfl rfl)
theorem dL_law_1531 : decode cL_law 1531 = .ok (.iadd, 1) := dk_96 (dk_at dksL_law_59 10 rfl rfl)
theorem dL_law_1532 : decode cL_law 1532 = .ok (.iaload, 1) := dk_46 (dk_at dksL_law_59 11 rfl rfl)
theorem dL_law_1533 : decode cL_law 1533 = .ok (.aload_n 0, 1) := dk_42 (dk_at dksL_law_59 12 rfl rfl)
theorem dL_law_1534 : decode cL_law 1534 = .ok (.iload 4, 2) := dk_21 4 (dk_at dksL_law_59 13 rfl rfl)
theorem dL_law_1536 : decode cL_law 1536 = .ok (.iconst 2, 1) := dk_5 (dk_at dksL_law_59 15 rfl rfl)
theorem dL_law_1537 : decode cL_law 1537 = .ok (.iadd, 1) := dk_96 (dk_at dksL_law_59 16 rfl rfl)
theorem dL_law_1538 : decode cL_law 1538 = .ok (.iaload, 1) := dk_46 (dk_at dksL_law_59 17 rfl rfl)
theorem dL_law_1539 : decode cL_law 1539 = .ok (.invokevirtual 214, 3) := dk_182 0 214 (dk_at dksL_law_59 18 rfl rfl)
theorem dL_law_1542 : decode cL_law 1542 = .ok (.astore 6, 2) := dk_58 6 (dk_at dksL_law_59 21 rfl rfl)
theorem dL_law_1544 : decode cL_law 1544 = .ok (.aload_n 2, 1) := dk_44 (dk_at dksL_law_59 23 rfl rfl)
theorem dL_law_1545 : decode cL_law 1545 = .ok (.invokevirtual 123, 3) := dk_182 0 123 (dk_at dksL_law_60 0 rfl rfl)
theorem dL_law_1548 : decode cL_law 1548 = .ok (.iload 5, 2) := dk_21 5 (dk_at dksL_law_60 3 rfl rfl)
theorem dL_law_1550 : decode cL_law 1550 = .ok (.if_icmp .eq 5, 3) := dk_159 0 5 (dk_at dksL_law_60 5 rfl rfl)
theorem dL_law_1553 : decode cL_law 1553 = .ok (.iconst 0, 1) := dk_3 (dk_at dksL_law_60 8 rfl rfl)
theorem dL_law_1554 : decode cL_law 1554 = .ok (.ireturn, 1) := dk_172 (dk_at dksL_law_60 9 rfl rfl)
theorem dL_law_1555 : decode cL_law 1555 = .ok (.iload 5, 2) := dk_21 5 (dk_at dksL_law_60 10 rfl rfl)
theorem dL_law_1557 : decode cL_law 1557 = .ok (.ifCond .ne 17, 3) := dk_154 0 17 (dk_at dksL_law_60 12 rfl rfl)
theorem dL_law_1560 : decode cL_law 1560 = .ok (.aload_n 3, 1) := dk_45 (dk_at dksL_law_60 15 rfl rfl)
theorem dL_law_1561 : decode cL_law 1561 = .ok (.getfield 66, 3) := dk_180 0 66 (dk_at dksL_law_60 16 rfl rfl)
theorem dL_law_1564 : decode cL_law 1564 = .ok (.aload 6, 2) := dk_25 6 (dk_at dksL_law_60 19 rfl rfl)
theorem dL_law_1566 : decode cL_law 1566 = .ok (.invokevirtual 179, 3) := dk_182 0 179 (dk_at dksL_law_60 21 rfl rfl)
theorem dL_law_1569 : decode cL_law 1569 = .ok (.ifCond .ne 5, 3) := dk_154 0 5 (dk_at dksL_law_61 0 rfl rfl)
theorem dL_law_1572 : decode cL_law 1572 = .ok (.iconst 0, 1) := dk_3 (dk_at dksL_law_61 3 rfl rfl)
theorem dL_law_1573 : decode cL_law 1573 = .ok (.ireturn, 1) := dk_172 (dk_at dksL_law_61 4 rfl rfl)
theorem dL_law_1574 : decode cL_law 1574 = .ok (.goto 531, 3) := dk_167 2 19 (dk_at dksL_law_61 5 rfl rfl)
theorem dL_law_1577 : decode cL_law 1577 = .ok (.aload_n 1, 1) := dk_43 (dk_at dksL_law_61 8 rfl rfl)
theorem dL_law_1578 : decode cL_law 1578 = .ok (.invokevirtual 215, 3) := dk_182 0 215 (dk_at dksL_law_61 9 rfl rfl)
theorem dL_law_1581 : decode cL_law 1581 = .ok (.aload_n 2, 1) := dk_44 (dk_at dksL_law_61 12 rfl rfl)
theorem dL_law_1582 : decode cL_law 1582 = .ok (.invokevirtual 218, 3) := dk_182 0 218 (dk_at dksL_law_61 13 rfl rfl)
theorem dL_law_1585 : decode cL_law 1585 = .ok (.if_icmp .eq 520, 3) := dk_159 2 8 (dk_at dksL_law_61 16 rfl rfl)
theorem dL_law_1588 : decode cL_law 1588 = .ok (.iconst 0, 1) := dk_3 (dk_at dksL_law_61 19 rfl rfl)
theorem dL_law_1589 : decode cL_law 1589 = .ok (.ireturn, 1) := dk_172 (dk_at dksL_law_61 20 rfl rfl)
theorem dL_law_1590 : decode cL_law 1590 = .ok (.aload_n 1, 1) := dk_43 (dk_at dksL_law_61 21 rfl rfl)
theorem dL_law_1591 : decode cL_law 1591 = .ok (.aload_n 0, 1) := dk_42 (dk_at dksL_law_61 22 rfl rfl)
theorem dL_law_1592 : decode cL_law 1592 = .ok (.iload 4, 2) := dk_21 4 (dk_at dksL_law_62 0 rfl rfl)
theorem dL_law_1594 : decode cL_law 1594 = .ok (.iconst 1, 1) := dk_4 (dk_at dksL_law_62 2 rfl rfl)
theorem dL_law_1595 : decode cL_law 1595 = .ok (.iadd, 1) := dk_96 (dk_at dksL_law_62 3 rfl rfl)
theorem dL_law_1596 : decode cL_law 1596 = .ok (.iaload, 1) := dk_46 (dk_at dksL_law_62 4 rfl rfl)
theorem dL_law_1597 : decode cL_law 1597 = .ok (.aload_n 3, 1) := dk_45 (dk_at dksL_law_62 5 rfl rfl)
theorem dL_law_1598 : decode cL_law 1598 = .ok (.invokestatic 219, 3) := dk_184 0 219 (dk_at dksL_law_62 6 rfl rfl)
theorem dL_law_1601 : decode cL_law 1601 = .ok (.istore 5, 2) := dk_54 5 (dk_at dksL_law_62 9 rfl rfl)
theorem dL_law_1603 : decode cL_law 1603 = .ok (.aload_n 2, 1) := dk_44 (dk_at dksL_law_62 11 rfl rfl)
theorem dL_law_1604 : decode cL_law 1604 = .ok (.aload_n 0, 1) := dk_42 (dk_at dksL_law_62 12 rfl rfl)
theorem dL_law_1605 : decode cL_law 1605 = .ok (.iload 4, 2) := dk_21 4 (dk_at dksL_law_62 13 rfl rfl)
theorem dL_law_1607 : decode cL_law 1607 = .ok (.iconst 1, 1) := dk_4 (dk_at dksL_law_62 15 rfl rfl)
theorem dL_law_1608 : decode cL_law 1608 = .ok (.iadd, 1) := dk_96 (dk_at dksL_law_62 16 rfl rfl)
theorem dL_law_1609 : decode cL_law 1609 = .ok (.iaload, 1) := dk_46 (dk_at dksL_law_62 17 rfl rfl)
theorem dL_law_1610 : decode cL_law 1610 = .ok (.invokevirtual 221, 3) := dk_182 0 221 (dk_at dksL_law_62 18 rfl rfl)
theorem dL_law_1613 : decode cL_law 1613 = .ok (.istore 6, 2) := dk_54 6 (dk_at dksL_law_62 21 rfl rfl)
theorem dL_law_1615 : decode cL_law 1615 = .ok (.aload_n 2, 1) := dk_44 (dk_at dksL_law_62 23 rfl rfl)
theorem dL_law_1616 : decode cL_law 1616 = .ok (.invokevirtual 123, 3) := dk_182 0 123 (dk_at dksL_law_63 0 rfl rfl)
theorem dL_law_1619 : decode cL_law 1619 = .ok (.iload 5, 2) := dk_21 5 (dk_at dksL_law_63 3 rfl rfl)
theorem dL_law_1621 : decode cL_law 1621 = .ok (.if_icmp .eq 5, 3) := dk_159 0 5 (dk_at dksL_law_63 5 rfl rfl)
theorem dL_law_1624 : decode cL_law 1624 = .ok (.iconst 0, 1) := dk_3 (dk_at dksL_law_63 8 rfl rfl)
theorem dL_law_1625 : decode cL_law 1625 = .ok (.ireturn, 1) := dk_172 (dk_at dksL_law_63 9 rfl rfl)
theorem dL_law_1626 : decode cL_law 1626 = .ok (.iload 5, 2) := dk_21 5 (dk_at dksL_law_63 10 rfl rfl)
theorem dL_law_1628 : decode cL_law 1628 = .ok (.ifCond .ne 16, 3) := dk_154 0 16 (dk_at dksL_law_63 12 rfl rfl)
theorem dL_law_1631 : decode cL_law 1631 = .ok (.aload_n 3, 1) := dk_45 (dk_at dksL_law_63 15 rfl rfl)
theorem dL_law_1632 : decode cL_law 1632 = .ok (.getfield 13, 3) := dk_180 0 13 (dk_at dksL_law_63 16 rfl rfl)
theorem dL_law_1635 : decode cL_law 1635 = .ok (.iload 6, 2) := dk_21 6 (dk_at dksL_law_63 19 rfl rfl)
theorem dL_law_1637 : decode cL_law 1637 = .ok (.i2l, 1) := dk_133 (dk_at dksL_law_63 21 rfl rfl)
theorem dL_law_1638 : decode cL_law 1638 = .ok (.lcmp, 1) := dk_148 (dk_at dksL_law_63 22 rfl rfl)
theorem dL_law_1639 : decode cL_law 1639 = .ok (.ifCond .eq 5, 3) := dk_153 0 5 (dk_at dksL_law_64 0 rfl rfl)
theorem dL_law_1642 : decode cL_law 1642 = .ok (.iconst 0, 1) := dk_3 (dk_at dksL_law_64 3 rfl rfl)
theorem dL_law_1643 : decode cL_law 1643 = .ok (.ireturn, 1) := dk_172 (dk_at dksL_law_64 4 rfl rfl)
theorem dL_law_1644 : decode cL_law 1644 = .ok (.goto 461, 3) := dk_167 1 205 (dk_at dksL_law_64 5 rfl rfl)
theorem dL_law_1647 : decode cL_law 1647 = .ok (.aload_n 1, 1) := dk_43 (dk_at dksL_law_64 8 rfl rfl)
theorem dL_law_1648 : decode cL_law 1648 = .ok (.aload_n 0, 1) := dk_42 (dk_at dksL_law_64 9 rfl rfl)
theorem dL_law_1649 : decode cL_law 1649 = .ok (.iload 4, 2) := dk_21 4 (dk_at dksL_law_64 10 rfl rfl)
theorem dL_law_1651 : decode cL_law 1651 = .ok (.iconst 1, 1) := dk_4 (dk_at dksL_law_64 12 rfl rfl)
theorem dL_law_1652 : decode cL_law 1652 = .ok (.iadd, 1) := dk_96 (dk_at dksL_law_64 13 rfl rfl)
theorem dL_law_1653 : decode cL_law 1653 = .ok (.iaload, 1) := dk_46 (dk_at dksL_law_64 14 rfl rfl)
theorem dL_law_1654 : decode cL_law 1654 = .ok (.aload_n 3, 1) := dk_45 (dk_at dksL_law_64 15 rfl rfl)
theorem dL_law_1655 : decode cL_law 1655 = .ok (.invokestatic 222, 3) := dk_184 0 222 (dk_at dksL_law_64 16 rfl rfl)
theorem dL_law_1658 : decode cL_law 1658 = .ok (.istore 5, 2) := dk_54 5 (dk_at dksL_law_64 19 rfl rfl)
theorem dL_law_1660 : decode cL_law 1660 = .ok (.aload_n 2, 1) := dk_44 (dk_at dksL_law_64 21 rfl rfl)
theorem dL_law_1661 : decode cL_law 1661 = .ok (.aload_n 0, 1) := dk_42 (dk_at dksL_law_64 22 rfl rfl)
theorem dL_law_1662 : decode cL_law 1662 = .ok (.iload 4, 2) := dk_21 4 (dk_at dksL_law_65 0 rfl rfl)
theorem dL_law_1664 : decode cL_law 1664 = .ok (.iconst 1, 1) := dk_4 (dk_at dksL_law_65 2 rfl rfl)
theorem dL_law_1665 : decode cL_law 1665 = .ok (.iadd, 1) := dk_96 (dk_at dksL_law_65 3 rfl rfl)
theorem dL_law_1666 : decode cL_law 1666 = .ok (.iaload, 1) := dk_46 (dk_at dksL_law_65 4 rfl rfl)
theorem dL_law_1667 : decode cL_law 1667 = .ok (.invokevirtual 224, 3) := dk_182 0 224 (dk_at dksL_law_65 5 rfl rfl)
theorem dL_law_1670 : decode cL_law 1670 = .ok (.istore 6, 2) := dk_54 6 (dk_at dksL_law_65 8 rfl rfl)
theorem dL_law_1672 : decode cL_law 1672 = .ok (.aload_n 2, 1) := dk_44 (dk_at dksL_law_65 10 rfl rfl)
theorem dL_law_1673 : decode cL_law 1673 = .ok (.invokevirtual 123, 3) := dk_182 0 123 (dk_at dksL_law_65 11 rfl rfl)
theorem dL_law_1676 : decode cL_law 1676 = .ok (.iload 5, 2) := dk_21 5 (dk_at dksL_law_65 14 rfl rfl)
theorem dL_law_1678 : decode cL_law 1678 = .ok (.if_icmp .eq 5, 3) := dk_159 0 5 (dk_at dksL_law_65 16 rfl rfl)
theorem dL_law_1681 : decode cL_law 1681 = .ok (.iconst 0, 1) := dk_3 (dk_at dksL_law_65 19 rfl rfl)
theorem dL_law_1682 : decode cL_law 1682 = .ok (.ireturn, 1) := dk_172 (dk_at dksL_law_65 20 rfl rfl)
theorem dL_law_1683 : decode cL_law 1683 = .ok (.iload 5, 2) := dk_21 5 (dk_at dksL_law_65 21 rfl rfl)
theorem dL_law_1685 : decode cL_law 1685 = .ok (.ifCond .ne 16, 3) := dk_154 0 16 (dk_at dksL_law_66 0 rfl rfl)
theorem dL_law_1688 : decode cL_law 1688 = .ok (.aload_n 3, 1) := dk_45 (dk_at dksL_law_66 3 rfl rfl)
theorem dL_law_1689 : decode cL_law 1689 = .ok (.getfield 13, 3) := dk_180 0 13 (dk_at dksL_law_66 4 rfl rfl)
theorem dL_law_1692 : decode cL_law 1692 = .ok (.iload 6, 2) := dk_21 6 (dk_at dksL_law_66 7 rfl rfl)
theorem dL_law_1694 : decode cL_law 1694 = .ok (.i2l, 1) := dk_133 (dk_at dksL_law_66 9 rfl rfl)
theorem dL_law_1695 : decode cL_law 1695 = .ok (.lcmp, 1) := dk_148 (dk_at dksL_law_66 10 rfl rfl)
theorem dL_law_1696 : decode cL_law 1696 = .ok (.ifCond .eq 5, 3) := dk_153 0 5 (dk_at dksL_law_66 11 rfl rfl)
theorem dL_law_1699 : decode cL_law 1699 = .ok (.iconst 0, 1) := dk_3 (dk_at dksL_law_66 14 rfl rfl)
theorem dL_law_1700 : decode cL_law 1700 = .ok (.ireturn, 1) := dk_172 (dk_at dksL_law_66 15 rfl rfl)
theorem dL_law_1701 : decode cL_law 1701 = .ok (.goto 404, 3) := dk_167 1 148 (dk_at dksL_law_66 16 rfl rfl)
theorem dL_law_1704 : decode cL_law 1704 = .ok (.aload_n 1, 1) := dk_43 (dk_at dksL_law_66 19 rfl rfl)
theorem dL_law_1705 : decode cL_law 1705 = .ok (.invokevirtual 225, 3) := dk_182 0 225 (dk_at dksL_law_66 20 rfl rfl)
theorem dL_law_1708 : decode cL_law 1708 = .ok (.aload_n 2, 1) := dk_44 (dk_at dksL_law_66 23 rfl rfl)
theorem dL_law_1709 : decode cL_law 1709 = .ok (.invokevirtual 228, 3) := dk_182 0 228 (dk_at dksL_law_67 0 rfl rfl)
theorem dL_law_1712 : decode cL_law 1712 = .ok (.if_icmp .eq 393, 3) := dk_159 1 137 (dk_at dksL_law_67 3 rfl rfl)
theorem dL_law_1715 : decode cL_law 1715 = .ok (.iconst 0, 1) := dk_3 (dk_at dksL_law_67 6 rfl rfl)
theorem dL_law_1716 : decode cL_law 1716 = .ok (.ireturn, 1) := dk_172 (dk_at dksL_law_67 7 rfl rfl)
theorem dL_law_1717 : decode cL_law 1717 = .ok (.aload_n 1, 1) := dk_43 (dk_at dksL_law_67 8 rfl rfl)
theorem dL_law_1718 : decode cL_law 1718 = .ok (.aload_n 0, 1) := dk_42 (dk_at dksL_law_67 9 rfl rfl)
theorem dL_law_1719 : decode cL_law 1719 = .ok (.iload 4, 2) := dk_21 4 (dk_at dksL_law_67 10 rfl rfl)
theorem dL_law_1721 : decode cL_law 1721 = .ok (.iconst 1, 1) := dk_4 (dk_at dksL_law_67 12 rfl rfl)
theorem dL_law_1722 : decode cL_law 1722 = .ok (.iadd, 1) := dk_96 (dk_at dksL_law_67 13 rfl rfl)
theorem dL_law_1723 : decode cL_law 1723 = .ok (.iaload, 1) := dk_46 (dk_at dksL_law_67 14 rfl rfl)
theorem dL_law_1724 : decode cL_law 1724 = .ok (.aload_n 3, 1) := dk_45 (dk_at dksL_law_67 15 rfl rfl)
theorem dL_law_1725 : decode cL_law 1725 = .ok (.invokestatic 229, 3) := dk_184 0 229 (dk_at dksL_law_67 16 rfl rfl)
theorem dL_law_1728 : decode cL_law 1728 = .ok (.istore 5, 2) := dk_54 5 (dk_at dksL_law_67 19 rfl rfl)
theorem dL_law_1730 : decode cL_law 1730 = .ok (.aload_n 2, 1) := dk_44 (dk_at dksL_law_67 21 rfl rfl)
theorem dL_law_1731 : decode cL_law 1731 = .ok (.aload_n 0, 1) := dk_42 (dk_at dksL_law_67 22 rfl rfl)
theorem dL_law_1732 : decode cL_law 1732 = .ok (.iload 4, 2) := dk_21 4 (dk_at dksL_law_68 0 rfl rfl)
theorem dL_law_1734 : decode cL_law 1734 = .ok (.iconst 1, 1) := dk_4 (dk_at dksL_law_68 2 rfl rfl)
theorem dL_law_1735 : decode cL_law 1735 = .ok (.iadd, 1) := dk_96 (dk_at dksL_law_68 3 rfl rfl)
theorem dL_law_1736 : decode cL_law 1736 = .ok (.iaload, 1) := dk_46 (dk_at dksL_law_68 4 rfl rfl)
theorem dL_law_1737 : decode cL_law 1737 = .ok (.invokevirtual 231, 3) := dk_182 0 231 (dk_at dksL_law_68 5 rfl rfl)
theorem dL_law_1740 : decode cL_law 1740 = .ok (.istore 6, 2) := dk_54 6 (dk_at dksL_law_68 8 rfl rfl)
theorem dL_law_1742 : decode cL_law 1742 = .ok (.aload_n 2, 1) := dk_44 (dk_at dksL_law_68 10 rfl rfl)
theorem dL_law_1743 : decode cL_law 1743 = .ok (.invokevirtual 123, 3) := dk_182 0 123 (dk_at dksL_law_68 11 rfl rfl)
theorem dL_law_1746 : decode cL_law 1746 = .ok (.iload 5, 2) := dk_21 5 (dk_at dksL_law_68 14 rfl rfl)
theorem dL_law_1748 : decode cL_law 1748 = .ok (.if_icmp .eq 5, 3) := dk_159 0 5 (dk_at dksL_law_68 16 rfl rfl)
theorem dL_law_1751 : decode cL_law 1751 = .ok (.iconst 0, 1) := dk_3 (dk_at dksL_law_68 19 rfl rfl)
theorem dL_law_1752 : decode cL_law 1752 = .ok (.ireturn, 1) := dk_172 (dk_at dksL_law_68 20 rfl rfl)
theorem dL_law_1753 : decode cL_law 1753 = .ok (.iload 5, 2) := dk_21 5 (dk_at dksL_law_68 21 rfl rfl)
theorem dL_law_1755 : decode cL_law 1755 = .ok (.ifCond .ne 16, 3) := dk_154 0 16 (dk_at dksL_law_69 0 rfl rfl)
theorem dL_law_1758 : decode cL_law 1758 = .ok (.aload_n 3, 1) := dk_45 (dk_at dksL_law_69 3 rfl rfl)
theorem dL_law_1759 : decode cL_law 1759 = .ok (.getfield 13, 3) := dk_180 0 13 (dk_at dksL_law_69 4 rfl rfl)
theorem dL_law_1762 : decode cL_law 1762 = .ok (.iload 6, 2) := dk_21 6 (dk_at dksL_law_69 7 rfl rfl)
theorem dL_law_1764 : decode cL_law 1764 = .ok (.i2l, 1) := dk_133 (dk_at dksL_law_69 9 rfl rfl)
theorem dL_law_1765 : decode cL_law 1765 = .ok (.lcmp, 1) := dk_148 (dk_at dksL_law_69 10 rfl rfl)
theorem dL_law_1766 : decode cL_law 1766 = .ok (.ifCond .eq 5, 3) := dk_153 0 5 (dk_at dksL_law_69 11 rfl rfl)
theorem dL_law_1769 : decode cL_law 1769 = .ok (.iconst 0, 1) := dk_3 (dk_at dksL_law_69 14 rfl rfl)
theorem dL_law_1770 : decode cL_law 1770 = .ok (.ireturn, 1) := dk_172 (dk_at dksL_law_69 15 rfl rfl)
theorem dL_law_1771 : decode cL_law 1771 = .ok (.goto 334, 3) := dk_167 1 78 (dk_at dksL_law_69 16 rfl rfl)
theorem dL_law_1774 : decode cL_law 1774 = .ok (.aload_n 1, 1) := dk_43 (dk_at dksL_law_69 19 rfl rfl)
theorem dL_law_1775 : decode cL_law 1775 = .ok (.invokevirtual 232, 3) := dk_182 0 232 (dk_at dksL_law_69 20 rfl rfl)
theorem dL_law_1778 : decode cL_law 1778 = .ok (.aload_n 2, 1) := dk_44 (dk_at dksL_law_69 23 rfl rfl)
theorem dL_law_1779 : decode cL_law 1779 = .ok (.invokevirtual 235, 3) := dk_182 0 235 (dk_at dksL_law_70 0 rfl rfl)
theorem dL_law_1782 : decode cL_law 1782 = .ok (.if_icmp .eq 323, 3) := dk_159 1 67 (dk_at dksL_law_70 3 rfl rfl)
theorem dL_law_1785 : decode cL_law 1785 = .ok (.iconst 0, 1) := dk_3 (dk_at dksL_law_70 6 rfl rfl)
theorem dL_law_1786 : decode cL_law 1786 = .ok (.ireturn, 1) := dk_172 (dk_at dksL_law_70 7 rfl rfl)
theorem dL_law_1787 : decode cL_law 1787 = .ok (.aload_n 1, 1) := dk_43 (dk_at dksL_law_70 8 rfl rfl)
theorem dL_law_1788 : decode cL_law 1788 = .ok (.aload_n 0, 1) := dk_42 (dk_at dksL_law_70 9 rfl rfl)
theorem dL_law_1789 : decode cL_law 1789 = .ok (.iload 4, 2) := dk_21 4 (dk_at dksL_law_70 10 rfl rfl)
theorem dL_law_1791 : decode cL_law 1791 = .ok (.iconst 1, 1) := dk_4 (dk_at dksL_law_70 12 rfl rfl)
theorem dL_law_1792 : decode cL_law 1792 = .ok (.iadd, 1) := dk_96 (dk_at dksL_law_70 13 rfl rfl)
theorem dL_law_1793 : decode cL_law 1793 = .ok (.iaload, 1) := dk_46 (dk_at dksL_law_70 14 rfl rfl)
theorem dL_law_1794 : decode cL_law 1794 = .ok (.aload_n 3, 1) := dk_45 (dk_at dksL_law_70 15 rfl rfl)
theorem dL_law_1795 : decode cL_law 1795 = .ok (.invokestatic 236, 3) := dk_184 0 236 (dk_at dksL_law_70 16 rfl rfl)
theorem dL_law_1798 : decode cL_law 1798 = .ok (.istore 5, 2) := dk_54 5 (dk_at dksL_law_70 19 rfl rfl)
theorem dL_law_1800 : decode cL_law 1800 = .ok (.aload_n 2, 1) := dk_44 (dk_at dksL_law_70 21 rfl rfl)
theorem dL_law_1801 : decode cL_law 1801 = .ok (.aload_n 0, 1) := dk_42 (dk_at dksL_law_70 22 rfl rfl)
theorem dL_law_1802 : decode cL_law 1802 = .ok (.iload 4, 2) := dk_21 4 (dk_at dksL_law_71 0 rfl rfl)
theorem dL_law_1804 : decode cL_law 1804 = .ok (.iconst 1, 1) := dk_4 (dk_at dksL_law_71 2 rfl rfl)
theorem dL_law_1805 : decode cL_law 1805 = .ok (.iadd, 1) := dk_96 (dk_at dksL_law_71 3 rfl rfl)
theorem dL_law_1806 : decode cL_law 1806 = .ok (.iaload, 1) := dk_46 (dk_at dksL_law_71 4 rfl rfl)
theorem dL_law_1807 : decode cL_law 1807 = .ok (.invokevirtual 238, 3) := dk_182 0 238 (dk_at dksL_law_71 5 rfl rfl)
theorem dL_law_1810 : decode cL_law 1810 = .ok (.istore 6, 2) := dk_54 6 (dk_at dksL_law_71 8 rfl rfl)
theorem dL_law_1812 : decode cL_law 1812 = .ok (.aload_n 2, 1) := dk_44 (dk_at dksL_law_71 10 rfl rfl)
theorem dL_law_1813 : decode cL_law 1813 = .ok (.invokevirtual 123, 3) := dk_182 0 123 (dk_at dksL_law_71 11 rfl rfl)
theorem dL_law_1816 : decode cL_law 1816 = .ok (.iload 5, 2) := dk_21 5 (dk_at dksL_law_71 14 rfl rfl)
theorem dL_law_1818 : decode cL_law 1818 = .ok (.if_icmp .eq 5, 3) := dk_159 0 5 (dk_at dksL_law_71 16 rfl rfl)
theorem dL_law_1821 : decode cL_law 1821 = .ok (.iconst 0, 1) := dk_3 (dk_at dksL_law_71 19 rfl rfl)
theorem dL_law_1822 : decode cL_law 1822 = .ok (.ireturn, 1) := dk_172 (dk_at dksL_law_71 20 rfl rfl)
theorem dL_law_1823 : decode cL_law 1823 = .ok (.iload 5, 2) := dk_21 5 (dk_at dksL_law_71 21 rfl rfl)
theorem dL_law_1825 : decode cL_law 1825 = .ok (.ifCond .ne 16, 3) := dk_154 0 16 (dk_at dksL_law_72 0 rfl rfl)
theorem dL_law_1828 : decode cL_law 1828 = .ok (.aload_n 3, 1) := dk_45 (dk_at dksL_law_72 3 rfl rfl)
theorem dL_law_1829 : decode cL_law 1829 = .ok (.getfield 13, 3) := dk_180 0 13 (dk_at dksL_law_72 4 rfl rfl)
theorem dL_law_1832 : decode cL_law 1832 = .ok (.iload 6, 2) := dk_21 6 (dk_at dksL_law_72 7 rfl rfl)
theorem dL_law_1834 : decode cL_law 1834 = .ok (.i2l, 1) := dk_133 (dk_at dksL_law_72 9 rfl rfl)
theorem dL_law_1835 : decode cL_law 1835 = .ok (.lcmp, 1) := dk_148 (dk_at dksL_law_72 10 rfl rfl)
theorem dL_law_1836 : decode cL_law 1836 = .ok (.ifCond .eq 5, 3) := dk_153 0 5 (dk_at dksL_law_72 11 rfl rfl)
theorem dL_law_1839 : decode cL_law 1839 = .ok (.iconst 0, 1) := dk_3 (dk_at dksL_law_72 14 rfl rfl)
theorem dL_law_1840 : decode cL_law 1840 = .ok (.ireturn, 1) := dk_172 (dk_at dksL_law_72 15 rfl rfl)
theorem dL_law_1841 : decode cL_law 1841 = .ok (.goto 264, 3) := dk_167 1 8 (dk_at dksL_law_72 16 rfl rfl)
theorem dL_law_1844 : decode cL_law 1844 = .ok (.aload_n 1, 1) := dk_43 (dk_at dksL_law_72 19 rfl rfl)
theorem dL_law_1845 : decode cL_law 1845 = .ok (.invokevirtual 239, 3) := dk_182 0 239 (dk_at dksL_law_72 20 rfl rfl)
theorem dL_law_1848 : decode cL_law 1848 = .ok (.aload_n 2, 1) := dk_44 (dk_at dksL_law_72 23 rfl rfl)
theorem dL_law_1849 : decode cL_law 1849 = .ok (.invokevirtual 242, 3) := dk_182 0 242 (dk_at dksL_law_73 0 rfl rfl)
theorem dL_law_1852 : decode cL_law 1852 = .ok (.if_icmp .eq 253, 3) := dk_159 0 253 (dk_at dksL_law_73 3 rfl rfl)
theorem dL_law_1855 : decode cL_law 1855 = .ok (.iconst 0, 1) := dk_3 (dk_at dksL_law_73 6 rfl rfl)
theorem dL_law_1856 : decode cL_law 1856 = .ok (.ireturn, 1) := dk_172 (dk_at dksL_law_73 7 rfl rfl)
theorem dL_law_1857 : decode cL_law 1857 = .ok (.aload_n 1, 1) := dk_43 (dk_at dksL_law_73 8 rfl rfl)
theorem dL_law_1858 : decode cL_law 1858 = .ok (.invokevirtual 243, 3) := dk_182 0 243 (dk_at dksL_law_73 9 rfl rfl)
theorem dL_law_1861 : decode cL_law 1861 = .ok (.aload_n 2, 1) := dk_44 (dk_at dksL_law_73 12 rfl rfl)
theorem dL_law_1862 : decode cL_law 1862 = .ok (.invokevirtual 246, 3) := dk_182 0 246 (dk_at dksL_law_73 13 rfl rfl)
theorem dL_law_1865 : decode cL_law 1865 = .ok (.if_icmp .eq 240, 3) := dk_159 0 240 (dk_at dksL_law_73 16 rfl rfl)
theorem dL_law_1868 : decode cL_law 1868 = .ok (.iconst 0, 1) := dk_3 (dk_at dksL_law_73 19 rfl rfl)
theorem dL_law_1869 : decode cL_law 1869 = .ok (.ireturn, 1) := dk_172 (dk_at dksL_law_73 20 rfl rfl)
theorem dL_law_1870 : decode cL_law 1870 = .ok (.aload_n 1, 1) := dk_43 (dk_at dksL_law_73 21 rfl rfl)
theorem dL_law_1871 : decode cL_law 1871 = .ok (.aload_n 0, 1) := dk_42 (dk_at dksL_law_73 22 rfl rfl)
theorem dL_law_1872 : decode cL_law 1872 = .ok (.iload 4, 2) := dk_21 4 (dk_at dksL_law_74 0 rfl rfl)
theorem dL_law_1874 : decode cL_law 1874 = .ok (.iconst 1, 1) := dk_4 (dk_at dksL_law_74 2 rfl rfl)
theorem dL_law_1875 : decode cL_law 1875 = .ok (.iadd, 1) := dk_96 (dk_at dksL_law_74 3 rfl rfl)
theorem dL_law_1876 : decode cL_law 1876 = .ok (.iaload, 1) := dk_46 (dk_at dksL_law_74 4 rfl rfl)
theorem dL_law_1877 : decode cL_law 1877 = .ok (.aload_n 0, 1) := dk_42 (dk_at dksL_law_74 5 rfl rfl)
theorem dL_law_1878 : decode cL_law 1878 = .ok (.iload 4, 2) := dk_21 4 (dk_at dksL_law_74 6 rfl rfl)
theorem dL_law_1880 : decode cL_law 1880 = .ok (.iconst 2, 1) := dk_5 (dk_at dksL_law_74 8 rfl rfl)
theorem dL_law_1881 : decode cL_law 1881 = .ok (.iadd, 1) := dk_96 (dk_at dksL_law_74 9 rfl rfl)
theorem dL_law_1882 : decode cL_law 1882 = .ok (.iaload, 1) := dk_46 (dk_at dksL_law_74 10 rfl rfl)
theorem dL_law_1883 : decode cL_law 1883 = .ok (.aload_n 3, 1) := dk_45 (dk_at dksL_law_74 11 rfl rfl)
theorem dL_law_1884 : decode cL_law 1884 = .ok (.invokestatic 247, 3) := dk_184 0 247 (dk_at dksL_law_74 12 rfl rfl)
theorem dL_law_1887 : decode cL_law 1887 = .ok (.istore 5, 2) := dk_54 5 (dk_at dksL_law_74 15 rfl rfl)
theorem dL_law_1889 : decode cL_law 1889 = .ok (.aload_n 2, 1) := dk_44 (dk_at dksL_law_74 17 rfl rfl)
theorem dL_law_1890 : decode cL_law 1890 = .ok (.aload_n 0, 1) := dk_42 (dk_at dksL_law_74 18 rfl rfl)
theorem dL_law_1891 : decode cL_law 1891 = .ok (.iload 4, 2) := dk_21 4 (dk_at dksL_law_74 19 rfl rfl)
theorem dL_law_1893 : decode cL_law 1893 = .ok (.iconst 1, 1) := dk_4 (dk_at dksL_law_74 21 rfl rfl)
theorem dL_law_1894 : decode cL_law 1894 = .ok (.iadd, 1) := dk_96 (dk_at dksL_law_74 22 rfl rfl)
theorem dL_law_1895 : decode cL_law 1895 = .ok (.iaload, 1) := dk_46 (dk_at dksL_law_74 23 rfl rfl)
theorem dL_law_1896 : decode cL_law 1896 = .ok (.aload_n 0, 1) := dk_42 (dk_at dksL_law_75 0 rfl rfl)
theorem dL_law_1897 : decode cL_law 1897 = .ok (.iload 4, 2) := dk_21 4 (dk_at dksL_law_75 1 rfl rfl)
theorem dL_law_1899 : decode cL_law 1899 = .ok (.iconst 2, 1) := dk_5 (dk_at dksL_law_75 3 rfl rfl)
theorem dL_law_1900 : decode cL_law 1900 = .ok (.iadd, 1) := dk_96 (dk_at dksL_law_75 4 rfl rfl)
theorem dL_law_1901 : decode cL_law 1901 = .ok (.iaload, 1) := dk_46 (dk_at dksL_law_75 5 rfl rfl)
theorem dL_law_1902 : decode cL_law 1902 = .ok (.invokevirtual 249, 3) := dk_182 0 249 (dk_at dksL_law_75 6 rfl rfl)
theorem dL_law_1905 : decode cL_law 1905 = .ok (.istore 6, 2) := dk_54 6 (dk_at dksL_law_75 9 rfl rfl)
theorem dL_law_1907 : decode cL_law 1907 = .ok (.aload_n 2, 1) := dk_44 (dk_at dksL_law_75 11 rfl rfl)
theorem dL_law_1908 : decode cL_law 1908 = .ok (.invokevirtual 123, 3) := dk_182 0 123 (dk_at dksL_law_75 12 rfl rfl)
theorem dL_law_1911 : decode cL_law 1911 = .ok (.iload 5, 2) := dk_21 5 (dk_at dksL_law_75 15 rfl rfl)
theorem dL_law_1913 : decode cL_law 1913 = .ok (.if_icmp .eq 5, 3) := dk_159 0 5 (dk_at dksL_law_75 17 rfl rfl)
theorem dL_law_1916 : decode cL_law 1916 = .ok (.iconst 0, 1) := dk_3 (dk_at dksL_law_75 20 rfl rfl)
theorem dL_law_1917 : decode cL_law 1917 = .ok (.ireturn, 1) := dk_172 (dk_at dksL_law_75 21 rfl rfl)
theorem dL_law_1918 : decode cL_law 1918 = .ok (.iload 5, 2) := dk_21 5 (dk_at dksL_law_75 22 rfl rfl)
theorem dL_law_1920 : decode cL_law 1920 = .ok (.ifCond .ne 16, 3) := dk_154 0 16 (dk_at dksL_law_76 0 rfl rfl)
theorem dL_law_1923 : decode cL_law 1923 = .ok (.aload_n 3, 1) := dk_45 (dk_at dksL_law_76 3 rfl rfl)
theorem dL_law_1924 : decode cL_law 1924 = .ok (.getfield 13, 3) := dk_180 0 13 (dk_at dksL_law_76 4 rfl rfl)
theorem dL_law_1927 : decode cL_law 1927 = .ok (.iload 6, 2) := dk_21 6 (dk_at dksL_law_76 7 rfl rfl)
theorem dL_law_1929 : decode cL_law 1929 = .ok (.i2l, 1) := dk_133 (dk_at dksL_law_76 9 rfl rfl)
theorem dL_law_1930 : decode cL_law 1930 = .ok (.lcmp, 1) := dk_148 (dk_at dksL_law_76 10 rfl rfl)
theorem dL_law_1931 : decode cL_law 1931 = .ok (.ifCond .eq 5, 3) := dk_153 0 5 (dk_at dksL_law_76 11 rfl rfl)
theorem dL_law_1934 : decode cL_law 1934 = .ok (.iconst 0, 1) := dk_3 (dk_at dksL_law_76 14 rfl rfl)
theorem dL_law_1935 : decode cL_law 1935 = .ok (.ireturn, 1) := dk_172 (dk_at dksL_law_76 15 rfl rfl)
theorem dL_law_1936 : decode cL_law 1936 = .ok (.goto 169, 3) := dk_167 0 169 (dk_at dksL_law_76 16 rfl rfl)
theorem dL_law_1939 : decode cL_law 1939 = .ok (.aload_n 1, 1) := dk_43 (dk_at dksL_law_76 19 rfl rfl)
theorem dL_law_1940 : decode cL_law 1940 = .ok (.aload_n 0, 1) := dk_42 (dk_at dksL_law_76 20 rfl rfl)
theorem dL_law_1941 : decode cL_law 1941 = .ok (.iload 4, 2) := dk_21 4 (dk_at dksL_law_76 21 rfl rfl)
theorem dL_law_1943 : decode cL_law 1943 = .ok (.iconst 1, 1) := dk_4 (dk_at dksL_law_76 23 rfl rfl)
theorem dL_law_1944 : decode cL_law 1944 = .ok (.iadd, 1) := dk_96 (dk_at dksL_law_77 0 rfl rfl)
theorem dL_law_1945 : decode cL_law 1945 = .ok (.iaload, 1) := dk_46 (dk_at dksL_law_77 1 rfl rfl)
theorem dL_law_1946 : decode cL_law 1946 = .ok (.aload_n 0, 1) := dk_42 (dk_at dksL_law_77 2 rfl rfl)
theorem dL_law_1947 : decode cL_law 1947 = .ok (.iload 4, 2) := dk_21 4 (dk_at dksL_law_77 3 rfl rfl)
theorem dL_law_1949 : decode cL_law 1949 = .ok (.iconst 2, 1) := dk_5 (dk_at dksL_law_77 5 rfl rfl)
theorem dL_law_1950 : decode cL_law 1950 = .ok (.iadd, 1) := dk_96 (dk_at dksL_law_77 6 rfl rfl)
theorem dL_law_1951 : decode cL_law 1951 = .ok (.iaload, 1) := dk_46 (dk_at dksL_law_77 7 rfl rfl)
theorem dL_law_1952 : decode cL_law 1952 = .ok (.aload_n 3, 1) := dk_45 (dk_at dksL_law_77 8 rfl rfl)
theorem dL_law_1953 : decode cL_law 1953 = .ok (.invokestatic 250, 3) := dk_184 0 250 (dk_at dksL_law_77 9 rfl rfl)
theorem dL_law_1956 : decode cL_law 1956 = .ok (.istore 5, 2) := dk_54 5 (dk_at dksL_law_77 12 rfl rfl)
theorem dL_law_1958 : decode cL_law 1958 = .ok (.aload_n 2, 1) := dk_44 (dk_at dksL_law_77 14 rfl rfl)
theorem dL_law_1959 : decode cL_law 1959 = .ok (.aload_n 0, 1) := dk_42 (dk_at dksL_law_77 15 rfl rfl)
theorem dL_law_1960 : decode cL_law 1960 = .ok (.iload 4, 2) := dk_21 4 (dk_at dksL_law_77 16 rfl rfl)
theorem dL_law_1962 : decode cL_law 1962 = .ok (.iconst 1, 1) := dk_4 (dk_at dksL_law_77 18 rfl rfl)
theorem dL_law_1963 : decode cL_law 1963 = .ok (.iadd, 1) := dk_96 (dk_at dksL_law_77 19 rfl rfl)
theorem dL_law_1964 : decode cL_law 1964 = .ok (.iaload, 1) := dk_46 (dk_at dksL_law_77 20 rfl rfl)
theorem dL_law_1965 : decode cL_law 1965 = .ok (.aload_n 0, 1) := dk_42 (dk_at dksL_law_77 21 rfl rfl)
theorem dL_law_1966 : decode cL_law 1966 = .ok (.iload 4, 2) := dk_21 4 (dk_at dksL_law_77 22 rfl rfl)
theorem dL_law_1968 : decode cL_law 1968 = .ok (.iconst 2, 1) := dk_5 (dk_at dksL_law_78 0 rfl rfl)
theorem dL_law_1969 : decode cL_law 1969 = .ok (.iadd, 1) := dk_96 (dk_at dksL_law_78 1 rfl rfl)
theorem dL_law_1970 : decode cL_law 1970 = .ok (.iaload, 1) := dk_46 (dk_at dksL_law_78 2 rfl rfl)
theorem dL_law_1971 : decode cL_law 1971 = .ok (.invokevirtual 252, 3) := dk_182 0 252 (dk_at dksL_law_78 3 rfl rfl)
theorem dL_law_1974 : decode cL_law 1974 = .ok (.istore 6, 2) := dk_54 6 (dk_at dksL_law_78 6 rfl rfl)
theorem dL_law_1976 : decode cL_law 1976 = .ok (.aload_n 2, 1) := dk_44 (dk_at dksL_law_78 8 rfl rfl)
theorem dL_law_1977 : decode cL_law 1977 = .ok (.invokevirtual 123, 3) := dk_182 0 123 (dk_at dksL_law_78 9 rfl rfl)
theorem dL_law_1980 : decode cL_law 1980 = .ok (.iload 5, 2) := dk_21 5 (dk_at dksL_law_78 12 rfl rfl)
theorem dL_law_1982 : decode cL_law 1982 = .ok (.if_icmp .eq 5, 3) := dk_159 0 5 (dk_at dksL_law_78 14 rfl rfl)
theorem dL_law_1985 : decode cL_law 1985 = .ok (.iconst 0, 1) := dk_3 (dk_at dksL_law_78 17 rfl rfl)
theorem dL_law_1986 : decode cL_law 1986 = .ok (.ireturn, 1) := dk_172 (dk_at dksL_law_78 18 rfl rfl)
theorem dL_law_1987 : decode cL_law 1987 = .ok (.iload 5, 2) := dk_21 5 (dk_at dksL_law_78 19 rfl rfl)
theorem dL_law_1989 : decode cL_law 1989 = .ok (.ifCond .ne 16, 3) := dk_154 0 16 (dk_at dksL_law_78 21 rfl rfl)
theorem dL_law_1992 : decode cL_law 1992 = .ok (.aload_n 3, 1) := dk_45 (dk_at dksL_law_79 0 rfl rfl)
theorem dL_law_1993 : decode cL_law 1993 = .ok (.getfield 13, 3) := dk_180 0 13 (dk_at dksL_law_79 1 rfl rfl)
theorem dL_law_1996 : decode cL_law 1996 = .ok (.iload 6, 2) := dk_21 6 (dk_at dksL_law_79 4 rfl rfl)
theorem dL_law_1998 : decode cL_law 1998 = .ok (.i2l, 1) := dk_133 (dk_at dksL_law_79 6 rfl rfl)
theorem dL_law_1999 : decode cL_law 1999 = .ok (.lcmp, 1) := dk_148 (dk_at dksL_law_79 7 rfl rfl)
theorem dL_law_2000 : decode cL_law 2000 = .ok (.ifCond .eq 5, 3) := dk_153 0 5 (dk_at dksL_law_79 8 rfl rfl)
theorem dL_law_2003 : decode cL_law 2003 = .ok (.iconst 0, 1) := dk_3 (dk_at dksL_law_79 11 rfl rfl)
theorem dL_law_2004 : decode cL_law 2004 = .ok (.ireturn, 1) := dk_172 (dk_at dksL_law_79 12 rfl rfl)
theorem dL_law_2005 : decode cL_law 2005 = .ok (.goto 100, 3) := dk_167 0 100 (dk_at dksL_law_79 13 rfl rfl)
theorem dL_law_2008 : decode cL_law 2008 = .ok (.aload_n 1, 1) := dk_43 (dk_at dksL_law_79 16 rfl rfl)
theorem dL_law_2009 : decode cL_law 2009 = .ok (.aload_n 0, 1) := dk_42 (dk_at dksL_law_79 17 rfl rfl)
theorem dL_law_2010 : decode cL_law 2010 = .ok (.iload 4, 2) := dk_21 4 (dk_at dksL_law_79 18 rfl rfl)
theorem dL_law_2012 : decode cL_law 2012 = .ok (.iconst 1, 1) := dk_4 (dk_at dksL_law_79 20 rfl rfl)
theorem dL_law_2013 : decode cL_law 2013 = .ok (.iadd, 1) := dk_96 (dk_at dksL_law_79 21 rfl rfl)
theorem dL_law_2014 : decode cL_law 2014 = .ok (.iaload, 1) := dk_46 (dk_at dksL_law_79 22 rfl rfl)
theorem dL_law_2015 : decode cL_law 2015 = .ok (.aload_n 3, 1) := dk_45 (dk_at dksL_law_79 23 rfl rfl)
theorem dL_law_2016 : decode cL_law 2016 = .ok (.invokestatic 253, 3) := dk_184 0 253 (dk_at dksL_law_80 0 rfl rfl)
theorem dL_law_2019 : decode cL_law 2019 = .ok (.istore 5, 2) := dk_54 5 (dk_at dksL_law_80 3 rfl rfl)
theorem dL_law_2021 : decode cL_law 2021 = .ok (.aload_n 2, 1) := dk_44 (dk_at dksL_law_80 5 rfl rfl)
theorem dL_law_2022 : decode cL_law 2022 = .ok (.aload_n 0, 1) := dk_42 (dk_at dksL_law_80 6 rfl rfl)
theorem dL_law_2023 : decode cL_law 2023 = .ok (.iload 4, 2) := dk_21 4 (dk_at dksL_law_80 7 rfl rfl)
theorem dL_law_2025 : decode cL_law 2025 = .ok (.iconst 1, 1) := dk_4 (dk_at dksL_law_80 9 rfl rfl)
theorem dL_law_2026 : decode cL_law 2026 = .ok (.iadd, 1) := dk_96 (dk_at dksL_law_80 10 rfl rfl)
theorem dL_law_2027 : decode cL_law 2027 = .ok (.iaload, 1) := dk_46 (dk_at dksL_law_80 11 rfl rfl)
theorem dL_law_2028 : decode cL_law 2028 = .ok (.invokevirtual 255, 3) := dk_182 0 255 (dk_at dksL_law_80 12 rfl rfl)
theorem dL_law_2031 : decode cL_law 2031 = .ok (.istore 6, 2) := dk_54 6 (dk_at dksL_law_80 15 rfl rfl)
theorem dL_law_2033 : decode cL_law 2033 = .ok (.aload_n 2, 1) := dk_44 (dk_at dksL_law_80 17 rfl rfl)
theorem dL_law_2034 : decode cL_law 2034 = .ok (.invokevirtual 123, 3) := dk_182 0 123 (dk_at dksL_law_80 18 rfl rfl)
theorem dL_law_2037 : decode cL_law 2037 = .ok (.iload 5, 2) := dk_21 5 (dk_at dksL_law_80 21 rfl rfl)
theorem dL_law_2039 : decode cL_law 2039 = .ok (.if_icmp .eq 5, 3) := dk_159 0 5 (dk_at dksL_law_81 0 rfl rfl)
theorem dL_law_2042 : decode cL_law 2042 = .ok (.iconst 0, 1) := dk_3 (dk_at dksL_law_81 3 rfl rfl)
theorem dL_law_2043 : decode cL_law 2043 = .ok (.ireturn, 1) := dk_172 (dk_at dksL_law_81 4 rfl rfl)
theorem dL_law_2044 : decode cL_law 2044 = .ok (.iload 5, 2) := dk_21 5 (dk_at dksL_law_81 5 rfl rfl)
theorem dL_law_2046 : decode cL_law 2046 = .ok (.ifCond .ne 16, 3) := dk_154 0 16 (dk_at dksL_law_81 7 rfl rfl)
theorem dL_law_2049 : decode cL_law 2049 = .ok (.aload_n 3, 1) := dk_45 (dk_at dksL_law_81 10 rfl rfl)
theorem dL_law_2050 : decode cL_law 2050 = .ok (.getfield 13, 3) := dk_180 0 13 (dk_at dksL_law_81 11 rfl rfl)
theorem dL_law_2053 : decode cL_law 2053 = .ok (.iload 6, 2) := dk_21 6 (dk_at dksL_law_81 14 rfl rfl)
theorem dL_law_2055 : decode cL_law 2055 = .ok (.i2l, 1) := dk_133 (dk_at dksL_law_81 16 rfl rfl)
theorem dL_law_2056 : decode cL_law 2056 = .ok (.lcmp, 1) := dk_148 (dk_at dksL_law_81 17 rfl rfl)
theorem dL_law_2057 : decode cL_law 2057 = .ok (.ifCond .eq 5, 3) := dk_153 0 5 (dk_at dksL_law_81 18 rfl rfl)
theorem dL_law_2060 : decode cL_law 2060 = .ok (.iconst 0, 1) := dk_3 (dk_at dksL_law_81 21 rfl rfl)
theorem dL_law_2061 : decode cL_law 2061 = .ok (.ireturn, 1) := dk_172 (dk_at dksL_law_81 22 rfl rfl)
theorem dL_law_2062 : decode cL_law 2062 = .ok (.goto 43, 3) := dk_167 0 43 (dk_at dksL_law_82 0 rfl rfl)
theorem dL_law_2065 : decode cL_law 2065 = .ok (.aload_n 1, 1) := dk_43 (dk_at dksL_law_82 3 rfl rfl)
theorem dL_law_2066 : decode cL_law 2066 = .ok (.invokevirtual 256, 3) := dk_182 1 0 (dk_at dksL_law_82 4 rfl rfl)
theorem dL_law_2069 : decode cL_law 2069 = .ok (.aload_n 2, 1) := dk_44 (dk_at dksL_law_82 7 rfl rfl)
theorem dL_law_2070 : decode cL_law 2070 = .ok (.invokevirtual 259, 3) := dk_182 1 3 (dk_at dksL_law_82 8 rfl rfl)
theorem dL_law_2073 : decode cL_law 2073 = .ok (.if_icmp .eq 32, 3) := dk_159 0 32 (dk_at dksL_law_82 11 rfl rfl)
theorem dL_law_2076 : decode cL_law 2076 = .ok (.iconst 0, 1) := dk_3 (dk_at dksL_law_82 14 rfl rfl)
theorem dL_law_2077 : decode cL_law 2077 = .ok (.ireturn, 1) := dk_172 (dk_at dksL_law_82 15 rfl rfl)
theorem dL_law_2078 : decode cL_law 2078 = .ok (.aload_n 1, 1) := dk_43 (dk_at dksL_law_82 16 rfl rfl)
theorem dL_law_2079 : decode cL_law 2079 = .ok (.invokevirtual 260, 3) := dk_182 1 4 (dk_at dksL_law_82 17 rfl rfl)
theorem dL_law_2082 : decode cL_law 2082 = .ok (.aload_n 2, 1) := dk_44 (dk_at dksL_law_82 20 rfl rfl)
theorem dL_law_2083 : decode cL_law 2083 = .ok (.invokevirtual 264, 3) := dk_182 1 8 (dk_at dksL_law_82 21 rfl rfl)
theorem dL_law_2086 : decode cL_law 2086 = .ok (.if_icmp .eq 19, 3) := dk_159 0 19 (dk_at dksL_law_83 0 rfl rfl)
theorem dL_law_2089 : decode cL_law 2089 = .ok (.iconst 0, 1) := dk_3 (dk_at dksL_law_83 3 rfl rfl)
theorem dL_law_2090 : decode cL_law 2090 = .ok (.ireturn, 1) := dk_172 (dk_at dksL_law_83 4 rfl rfl)
theorem dL_law_2091 : decode cL_law 2091 = .ok (.aload_n 1, 1) := dk_43 (dk_at dksL_law_83 5 rfl rfl)
theorem dL_law_2092 : decode cL_law 2092 = .ok (.invokevirtual 265, 3) := dk_182 1 9 (dk_at dksL_law_83 6 rfl rfl)
theorem dL_law_2095 : decode cL_law 2095 = .ok (.aload_n 2, 1) := dk_44 (dk_at dksL_law_83 9 rfl rfl)
theorem dL_law_2096 : decode cL_law 2096 = .ok (.invokevirtual 269, 3) := dk_182 1 13 (dk_at dksL_law_83 10 rfl rfl)
theorem dL_law_2099 : decode cL_law 2099 = .ok (.lcmp, 1) := dk_148 (dk_at dksL_law_83 13 rfl rfl)
theorem dL_law_2100 : decode cL_law 2100 = .ok (.ifCond .eq 5, 3) := dk_153 0 5 (dk_at dksL_law_83 14 rfl rfl)
theorem dL_law_2103 : decode cL_law 2103 = .ok (.iconst 0, 1) := dk_3 (dk_at dksL_law_83 17 rfl rfl)
theorem dL_law_2104 : decode cL_law 2104 = .ok (.ireturn, 1) := dk_172 (dk_at dksL_law_83 18 rfl rfl)
theorem dL_law_2105 : decode cL_law 2105 = .ok (.iinc 4 5, 3) := dk_132 4 5 (dk_at dksL_law_83 19 rfl rfl)
theorem dL_law_2108 : decode cL_law 2108 = .ok (.goto (-2081), 3) := dk_167 247 223 (dk_at dksL_law_84 0 rfl rfl)
theorem dL_law_2111 : decode cL_law 2111 = .ok (.iconst 1, 1) := dk_4 (dk_at dksL_law_84 3 rfl rfl)
theorem dL_law_2112 : decode cL_law 2112 = .ok (.ireturn, 1) := dk_172 (dk_at dksL_law_84 4 rfl rfl)

-- words.rest.lean.txt
theorem q185 : (Jvm.Cond.arrayOver (Jvm.ClassFile.FieldType.array Jvm.ClassFile.FieldType.int)) ∈ lw_tbl := lw_at lw_m1 114 rfl
set_option maxRecDepth 100000
theorem q208 : (Jvm.Cond.arrayClass Jvm.ClassFile.FieldType.int) ∈ lw_all := lw_g (lw_at lw_m1 137 rfl) rfl
theorem q293 : (Jvm.Cond.arrayOver (Jvm.ClassFile.FieldType.object "java/lang/Object")) ∈ lw_tbl := lw_at lw_m1 222 rfl
theorem q658 : (Jvm.Cond.arrayClass Jvm.ClassFile.FieldType.byte) ∈ lw_all := lw_g (lw_at lw_m3 107 rfl) rfl
theorem q927 : (Jvm.Cond.arrayClass Jvm.ClassFile.FieldType.long) ∈ lw_all := lw_g (lw_at lw_m4 136 rfl) rfl
theorem q1165 : (Jvm.Cond.arrayOver (Jvm.ClassFile.FieldType.object "java/util/BitSet")) ∈ lw_tbl := lw_at lw_m5 134 rfl

-- words.java_lang_System.lean.txt
theorem q88 : (Jvm.Cond.initialized "java/lang/System") ∈ lw_all := lw_g (lw_at lw_m1 17 rfl) rfl
set_option maxRecDepth 100000
theorem q299 : (Jvm.Cond.static ({ cls := "java/lang/System", name := "arraycopy", desc := "(Ljava/lang/Object;ILjava/lang/Object;II)V" } : Jvm.MethodName)) ∈ lw_all := lw_g (lw_at lw_m1 228 rfl) rfl
theorem q300 : (Jvm.Cond.native ({ cls := "java/lang/System", name := "arraycopy", desc := "(Ljava/lang/Object;ILjava/lang/Object;II)V" } : Jvm.MethodName)) ∈ lw_all := lw_g (lw_at lw_m1 229 rfl) rfl

-- words.java_lang_Integer_IntegerCache.lean.txt
theorem q96 : (Jvm.Cond.initialized "java/lang/Integer$IntegerCache") ∈ lw_all := lw_g (lw_at lw_m1 25 rfl) rfl
set_option maxRecDepth 100000
theorem q360 : (Jvm.Cond.laysStatic "java/lang/Integer$IntegerCache" "high" "I") ∈ lw_tbl := lw_at lw_m2 49 rfl
theorem q362 : (Jvm.Cond.laysStatic "java/lang/Integer$IntegerCache" "cache" "[Ljava/lang/Integer;") ∈ lw_tbl := lw_at lw_m2 51 rfl

-- words.jdk_internal_misc_UnsafeConstants.lean.txt
theorem q99 : (Jvm.Cond.initialized "jdk/internal/misc/UnsafeConstants") ∈ lw_all := lw_g (lw_at lw_m1 28 rfl) rfl
set_option maxRecDepth 100000
theorem q477 : (Jvm.Cond.laysStatic "jdk/internal/misc/UnsafeConstants" "BIG_ENDIAN" "Z") ∈ lw_tbl := lw_at lw_m2 166 rfl

-- words.java_util_Comparator.lean.txt
theorem q390 : (Jvm.Cond.interfaceMethod "java/util/Comparator" "java/util/Comparator" "compare" "(Ljava/lang/Object;Ljava/lang/Object;)I") ∈ lw_tbl := lw_at lw_m2 79 rfl
set_option maxRecDepth 100000
theorem q391 : (Jvm.Cond.declares ({ cls := "java/util/Comparator", name := "compare", desc := "(Ljava/lang/Object;Ljava/lang/Object;)I" } : Jvm.MethodName)) ∈ lw_tbl := lw_at lw_m2 80 rfl

-- words.java_lang_Comparable.lean.txt
theorem q398 : (Jvm.Cond.interfaceMethod "java/lang/Comparable" "java/lang/Comparable" "compareTo" "(Ljava/lang/Object;)I") ∈ lw_tbl := lw_at lw_m2 87 rfl
set_option maxRecDepth 100000
theorem q399 : (Jvm.Cond.declares ({ cls := "java/lang/Comparable", name := "compareTo", desc := "(Ljava/lang/Object;)I" } : Jvm.MethodName)) ∈ lw_tbl := lw_at lw_m2 88 rfl

-- words._B.lean.txt
theorem q686 : (Jvm.Cond.sameMethod "[B" "java/lang/Object" "clone" "()Ljava/lang/Object;") ∈ lw_all := lw_g (lw_at lw_m3 135 rfl) rfl
set_option maxRecDepth 100000
theorem q689 : (Jvm.Cond.selects "[B" ({ cls := "[B", name := "clone", desc := "()Ljava/lang/Object;" } : Jvm.MethodName) ({ cls := "java/lang/Object", name := "clone", desc := "()Ljava/lang/Object;" } : Jvm.MethodName)) ∈ lw_all := lw_g (lw_at lw_m3 138 rfl) rfl
theorem q690 : (Jvm.Cond.castable "[B" "java/lang/Cloneable") ∈ lw_tbl := lw_at lw_m3 139 rfl
theorem q2219 : (Jvm.Cond.castable "[B" "java/lang/Object") ∈ lw_tbl := lw_at lw_m9 228 rfl

-- words._J.lean.txt
theorem q974 : (Jvm.Cond.sameMethod "[J" "java/lang/Object" "clone" "()Ljava/lang/Object;") ∈ lw_all := lw_g (lw_at lw_m4 183 rfl) rfl
set_option maxRecDepth 100000
theorem q975 : (Jvm.Cond.selects "[J" ({ cls := "[J", name := "clone", desc := "()Ljava/lang/Object;" } : Jvm.MethodName) ({ cls := "java/lang/Object", name := "clone", desc := "()Ljava/lang/Object;" } : Jvm.MethodName)) ∈ lw_all := lw_g (lw_at lw_m4 184 rfl) rfl
theorem q976 : (Jvm.Cond.castable "[J" "java/lang/Cloneable") ∈ lw_tbl := lw_at lw_m4 185 rfl
theorem q2220 : (Jvm.Cond.castable "[J" "java/lang/Object") ∈ lw_tbl := lw_at lw_m9 229 rfl

-- words.java_util_Iterator.lean.txt
theorem q1229 : (Jvm.Cond.interfaceMethod "java/util/Iterator" "java/util/Iterator" "hasNext" "()Z") ∈ lw_tbl := lw_at lw_m5 198 rfl
set_option maxRecDepth 100000
theorem q1230 : (Jvm.Cond.declares ({ cls := "java/util/Iterator", name := "hasNext", desc := "()Z" } : Jvm.MethodName)) ∈ lw_tbl := lw_at lw_m5 199 rfl
theorem q1245 : (Jvm.Cond.interfaceMethod "java/util/Iterator" "java/util/Iterator" "next" "()Ljava/lang/Object;") ∈ lw_tbl := lw_at lw_m5 214 rfl
theorem q1246 : (Jvm.Cond.declares ({ cls := "java/util/Iterator", name := "next", desc := "()Ljava/lang/Object;" } : Jvm.MethodName)) ∈ lw_tbl := lw_at lw_m5 215 rfl

-- words.java_util_Collection.lean.txt
theorem q1410 : (Jvm.Cond.interfaceMethod "java/util/Collection" "java/util/Collection" "iterator" "()Ljava/util/Iterator;") ∈ lw_tbl := lw_at lw_m6 139 rfl
set_option maxRecDepth 100000
theorem q1411 : (Jvm.Cond.declares ({ cls := "java/util/Collection", name := "iterator", desc := "()Ljava/util/Iterator;" } : Jvm.MethodName)) ∈ lw_tbl := lw_at lw_m6 140 rfl

-- words._Ljava_lang_Object_.lean.txt
theorem q2213 : (Jvm.Cond.sameMethod "[Ljava/lang/Object;" "java/lang/Object" "getClass" "()Ljava/lang/Class;") ∈ lw_all := lw_g (lw_at lw_m9 222 rfl) rfl
set_option maxRecDepth 100000
theorem q2214 : (Jvm.Cond.selects "[Ljava/lang/Object;" ({ cls := "java/lang/Object", name := "getClass", desc := "()Ljava/lang/Class;" } : Jvm.MethodName) ({ cls := "java/lang/Object", name := "getClass", desc := "()Ljava/lang/Class;" } : Jvm.MethodName)) ∈ lw_all := lw_g (lw_at lw_m9 223 rfl) rfl
theorem q2218 : (Jvm.Cond.castable "[Ljava/lang/Object;" "java/lang/Object") ∈ lw_tbl := lw_at lw_m9 227 rfl

-- words.__I.lean.txt
theorem q2216 : (Jvm.Cond.castable "[[I" "java/lang/Object") ∈ lw_tbl := lw_at lw_m9 225 rfl
set_option maxRecDepth 100000

-- words._I.lean.txt
theorem q2217 : (Jvm.Cond.castable "[I" "java/lang/Object") ∈ lw_tbl := lw_at lw_m9 226 rfl
set_option maxRecDepth 100000

-- words._Ljava_util_BitSet_.lean.txt
theorem q2221 : (Jvm.Cond.castable "[Ljava/util/BitSet;" "java/lang/Object") ∈ lw_tbl := lw_at lw_m9 230 rfl
set_option maxRecDepth 100000

