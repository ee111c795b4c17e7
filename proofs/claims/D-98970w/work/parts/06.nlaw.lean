/-! the law's own entry -/
set_option maxRecDepth 100000
abbrev cL_law : ByteArray := code
def dkwL_law_80 : List UInt8 := [182, 1, 25, 159, 0, 5, 3, 172, 132, 3, 6, 167, 247, 186, 4, 172]
abbrev dktL_law_80 : List UInt8 := dkwL_law_80 ++ []
def dkwL_law_79 : List UInt8 := [96, 46, 42, 29, 5, 96, 46, 42, 29, 6, 96, 46, 42, 29, 7, 96, 46, 42, 29, 8, 96, 46]
abbrev dktL_law_79 : List UInt8 := dkwL_law_79 ++ dktL_law_80
def dkwL_law_78 : List UInt8 := [96, 46, 42, 29, 6, 96, 46, 42, 29, 7, 96, 46, 42, 29, 8, 96, 46, 182, 1, 22, 44, 42, 29, 4]
abbrev dktL_law_78 : List UInt8 := dkwL_law_78 ++ dktL_law_79
def dkwL_law_77 : List UInt8 := [46, 133, 20, 1, 15, 127, 129, 182, 1, 21, 159, 0, 68, 3, 172, 43, 42, 29, 4, 96, 46, 42, 29, 5]
abbrev dktL_law_77 : List UInt8 := dkwL_law_77 ++ dktL_law_78
def dkwL_law_76 : List UInt8 := [44, 42, 29, 4, 96, 46, 42, 29, 5, 96, 46, 42, 29, 6, 96, 46, 133, 16, 32, 121, 42, 29, 7, 96]
abbrev dktL_law_76 : List UInt8 := dkwL_law_76 ++ dktL_law_77
def dkwL_law_75 : List UInt8 := [46, 42, 29, 6, 96, 46, 133, 16, 32, 121, 42, 29, 7, 96, 46, 133, 20, 1, 15, 127, 129, 182, 1, 17]
abbrev dktL_law_75 : List UInt8 := dkwL_law_75 ++ dktL_law_76
def dkwL_law_74 : List UInt8 := [46, 42, 29, 6, 96, 46, 182, 1, 14, 159, 0, 141, 3, 172, 43, 42, 29, 4, 96, 46, 42, 29, 5, 96]
abbrev dktL_law_74 : List UInt8 := dkwL_law_74 ++ dktL_law_75
def dkwL_law_73 : List UInt8 := [46, 42, 29, 5, 96, 46, 42, 29, 6, 96, 46, 182, 1, 11, 44, 42, 29, 4, 96, 46, 42, 29, 5, 96]
abbrev dktL_law_73 : List UInt8 := dkwL_law_73 ++ dktL_law_74
def dkwL_law_72 : List UInt8 := [96, 46, 182, 1, 7, 44, 42, 29, 4, 96, 46, 182, 1, 10, 159, 0, 184, 3, 172, 43, 42, 29, 4, 96]
abbrev dktL_law_72 : List UInt8 := dkwL_law_72 ++ dktL_law_73
def dkwL_law_71 : List UInt8 := [4, 96, 46, 182, 1, 3, 44, 42, 29, 4, 96, 46, 182, 1, 6, 159, 0, 207, 3, 172, 43, 42, 29, 4]
abbrev dktL_law_71 : List UInt8 := dkwL_law_71 ++ dktL_law_72
def dkwL_law_70 : List UInt8 := [29, 4, 96, 46, 182, 0, 255, 44, 42, 29, 4, 96, 46, 182, 1, 2, 159, 0, 230, 3, 172, 43, 42, 29]
abbrev dktL_law_70 : List UInt8 := dkwL_law_70 ++ dktL_law_71
def dkwL_law_69 : List UInt8 := [182, 0, 251, 44, 42, 29, 4, 96, 46, 42, 29, 5, 96, 46, 182, 0, 254, 159, 0, 253, 3, 172, 43, 42]
abbrev dktL_law_69 : List UInt8 := dkwL_law_69 ++ dktL_law_70
def dkwL_law_68 : List UInt8 := [5, 96, 46, 182, 0, 250, 159, 1, 30, 3, 172, 43, 42, 29, 4, 96, 46, 42, 29, 5, 96, 46]
abbrev dktL_law_68 : List UInt8 := dkwL_law_68 ++ dktL_law_69
def dkwL_law_67 : List UInt8 := [3, 172, 43, 42, 29, 4, 96, 46, 42, 29, 5, 96, 46, 182, 0, 247, 44, 42, 29, 4, 96, 46, 42, 29]
abbrev dktL_law_67 : List UInt8 := dkwL_law_67 ++ dktL_law_68
def dkwL_law_66 : List UInt8 := [29, 5, 96, 46, 182, 0, 243, 44, 42, 29, 4, 96, 46, 42, 29, 5, 96, 46, 182, 0, 246, 159, 1, 63]
abbrev dktL_law_66 : List UInt8 := dkwL_law_66 ++ dktL_law_67
def dkwL_law_65 : List UInt8 := [29, 5, 96, 46, 42, 29, 6, 96, 46, 182, 0, 242, 159, 1, 96, 3, 172, 43, 42, 29, 4, 96, 46, 42]
abbrev dktL_law_65 : List UInt8 := dkwL_law_65 ++ dktL_law_66
def dkwL_law_64 : List UInt8 := [29, 4, 96, 46, 42, 29, 5, 96, 46, 42, 29, 6, 96, 46, 182, 0, 239, 44, 42, 29, 4, 96, 46, 42]
abbrev dktL_law_64 : List UInt8 := dkwL_law_64 ++ dktL_law_65
def dkwL_law_63 : List UInt8 := [182, 0, 235, 44, 42, 29, 4, 96, 46, 42, 29, 5, 96, 46, 182, 0, 238, 159, 1, 139, 3, 172, 43, 42]
abbrev dktL_law_63 : List UInt8 := dkwL_law_63 ++ dktL_law_64
def dkwL_law_62 : List UInt8 := [4, 96, 46, 182, 0, 234, 159, 1, 172, 3, 172, 43, 42, 29, 4, 96, 46, 42, 29, 5, 96, 46]
abbrev dktL_law_62 : List UInt8 := dkwL_law_62 ++ dktL_law_63
def dkwL_law_61 : List UInt8 := [29, 4, 96, 46, 182, 0, 230, 159, 1, 195, 3, 172, 43, 42, 29, 4, 96, 46, 182, 0, 231, 44, 42, 29]
abbrev dktL_law_61 : List UInt8 := dkwL_law_61 ++ dktL_law_62
def dkwL_law_60 : List UInt8 := [42, 29, 4, 96, 46, 182, 0, 226, 159, 1, 218, 3, 172, 43, 42, 29, 4, 96, 46, 182, 0, 227, 44, 42]
abbrev dktL_law_60 : List UInt8 := dkwL_law_60 ++ dktL_law_61
def dkwL_law_59 : List UInt8 := [172, 43, 182, 0, 219, 44, 182, 0, 222, 159, 1, 241, 3, 172, 43, 42, 29, 4, 96, 46, 182, 0, 223, 44]
abbrev dktL_law_59 : List UInt8 := dkwL_law_59 ++ dktL_law_60
def dkwL_law_58 : List UInt8 := [3, 172, 43, 42, 29, 4, 96, 46, 182, 0, 215, 44, 42, 29, 4, 96, 46, 182, 0, 218, 159, 1, 254, 3]
abbrev dktL_law_58 : List UInt8 := dkwL_law_58 ++ dktL_law_59
def dkwL_law_57 : List UInt8 := [29, 5, 96, 46, 182, 0, 211, 44, 42, 29, 4, 96, 46, 42, 29, 5, 96, 46, 182, 0, 214, 159, 2, 21]
abbrev dktL_law_57 : List UInt8 := dkwL_law_57 ++ dktL_law_58
def dkwL_law_56 : List UInt8 := [29, 4, 96, 46, 42, 29, 5, 96, 46, 182, 0, 210, 159, 2, 54, 3, 172, 43, 42, 29, 4, 96, 46, 42]
abbrev dktL_law_56 : List UInt8 := dkwL_law_56 ++ dktL_law_57
def dkwL_law_55 : List UInt8 := [182, 0, 206, 159, 2, 87, 3, 172, 43, 42, 29, 4, 96, 46, 42, 29, 5, 96, 46, 182, 0, 207, 44, 42]
abbrev dktL_law_55 : List UInt8 := dkwL_law_55 ++ dktL_law_56
def dkwL_law_54 : List UInt8 := [182, 0, 202, 159, 2, 110, 3, 172, 43, 42, 29, 4, 96, 46, 182, 0, 203, 44, 42, 29, 4, 96, 46]
abbrev dktL_law_54 : List UInt8 := dkwL_law_54 ++ dktL_law_55
def dkwL_law_53 : List UInt8 := [4, 96, 46, 42, 29, 5, 96, 46, 182, 0, 199, 44, 42, 29, 4, 96, 46, 42, 29, 5, 96, 46]
abbrev dktL_law_53 : List UInt8 := dkwL_law_53 ++ dktL_law_54
def dkwL_law_52 : List UInt8 := [182, 0, 194, 159, 2, 156, 3, 172, 43, 182, 0, 195, 44, 182, 0, 198, 159, 2, 143, 3, 172, 43, 42, 29]
abbrev dktL_law_52 : List UInt8 := dkwL_law_52 ++ dktL_law_53
def dkwL_law_51 : List UInt8 := [182, 0, 187, 44, 42, 29, 4, 96, 46, 182, 0, 190, 159, 2, 169, 3, 172, 43, 182, 0, 191, 44]
abbrev dktL_law_51 : List UInt8 := dkwL_law_51 ++ dktL_law_52
def dkwL_law_50 : List UInt8 := [29, 4, 96, 46, 42, 29, 5, 96, 46, 182, 0, 186, 159, 2, 192, 3, 172, 43, 42, 29, 4, 96, 46]
abbrev dktL_law_50 : List UInt8 := dkwL_law_50 ++ dktL_law_51
def dkwL_law_49 : List UInt8 := [182, 0, 182, 159, 2, 225, 3, 172, 43, 42, 29, 4, 96, 46, 42, 29, 5, 96, 46, 182, 0, 183, 44, 42]
abbrev dktL_law_49 : List UInt8 := dkwL_law_49 ++ dktL_law_50
def dkwL_law_48 : List UInt8 := [29, 4, 96, 46, 42, 29, 5, 96, 46, 182, 0, 179, 44, 42, 29, 4, 96, 46, 42, 29, 5, 96, 46]
abbrev dktL_law_48 : List UInt8 := dkwL_law_48 ++ dktL_law_49
def dkwL_law_47 : List UInt8 := [182, 0, 175, 44, 42, 29, 4, 96, 46, 42, 29, 5, 96, 46, 182, 0, 178, 159, 3, 2, 3, 172, 43, 42]
abbrev dktL_law_47 : List UInt8 := dkwL_law_47 ++ dktL_law_48
def dkwL_law_46 : List UInt8 := [29, 6, 96, 46, 182, 0, 174, 159, 3, 35, 3, 172, 43, 42, 29, 4, 96, 46, 42, 29, 5, 96, 46]
abbrev dktL_law_46 : List UInt8 := dkwL_law_46 ++ dktL_law_47
def dkwL_law_45 : List UInt8 := [29, 5, 96, 46, 42, 29, 6, 96, 46, 182, 0, 171, 44, 42, 29, 4, 96, 46, 42, 29, 5, 96, 46, 42]
abbrev dktL_law_45 : List UInt8 := dkwL_law_45 ++ dktL_law_46
def dkwL_law_44 : List UInt8 := [182, 0, 167, 44, 42, 29, 4, 96, 46, 182, 0, 170, 159, 3, 78, 3, 172, 43, 42, 29, 4, 96, 46, 42]
abbrev dktL_law_44 : List UInt8 := dkwL_law_44 ++ dktL_law_45
def dkwL_law_43 : List UInt8 := [182, 0, 163, 44, 42, 29, 4, 96, 46, 182, 0, 166, 159, 3, 101, 3, 172, 43, 42, 29, 4, 96, 46]
abbrev dktL_law_43 : List UInt8 := dkwL_law_43 ++ dktL_law_44
def dkwL_law_42 : List UInt8 := [182, 0, 159, 44, 42, 29, 4, 96, 46, 182, 0, 162, 159, 3, 124, 3, 172, 43, 42, 29, 4, 96, 46]
abbrev dktL_law_42 : List UInt8 := dkwL_law_42 ++ dktL_law_43
def dkwL_law_41 : List UInt8 := [182, 0, 155, 44, 42, 29, 4, 96, 46, 182, 0, 158, 159, 3, 147, 3, 172, 43, 42, 29, 4, 96, 46]
abbrev dktL_law_41 : List UInt8 := dkwL_law_41 ++ dktL_law_42
def dkwL_law_40 : List UInt8 := [182, 0, 151, 44, 42, 29, 4, 96, 46, 182, 0, 154, 159, 3, 170, 3, 172, 43, 42, 29, 4, 96, 46]
abbrev dktL_law_40 : List UInt8 := dkwL_law_40 ++ dktL_law_41
def dkwL_law_39 : List UInt8 := [182, 0, 147, 44, 42, 29, 4, 96, 46, 182, 0, 150, 159, 3, 193, 3, 172, 43, 42, 29, 4, 96, 46]
abbrev dktL_law_39 : List UInt8 := dkwL_law_39 ++ dktL_law_40
def dkwL_law_38 : List UInt8 := [182, 0, 143, 44, 42, 29, 4, 96, 46, 182, 0, 146, 159, 3, 216, 3, 172, 43, 42, 29, 4, 96, 46]
abbrev dktL_law_38 : List UInt8 := dkwL_law_38 ++ dktL_law_39
def dkwL_law_37 : List UInt8 := [182, 0, 139, 44, 42, 29, 4, 96, 46, 182, 0, 142, 159, 3, 239, 3, 172, 43, 42, 29, 4, 96, 46]
abbrev dktL_law_37 : List UInt8 := dkwL_law_37 ++ dktL_law_38
def dkwL_law_36 : List UInt8 := [46, 182, 0, 135, 44, 42, 29, 4, 96, 46, 182, 0, 138, 159, 4, 6, 3, 172, 43, 42, 29, 4, 96, 46]
abbrev dktL_law_36 : List UInt8 := dkwL_law_36 ++ dktL_law_37
def dkwL_law_35 : List UInt8 := [96, 46, 182, 0, 131, 44, 42, 29, 4, 96, 46, 182, 0, 134, 159, 4, 29, 3, 172, 43, 42, 29, 4, 96]
abbrev dktL_law_35 : List UInt8 := dkwL_law_35 ++ dktL_law_36
def dkwL_law_34 : List UInt8 := [4, 96, 46, 182, 0, 127, 44, 42, 29, 4, 96, 46, 182, 0, 130, 159, 4, 52, 3, 172, 43, 42, 29, 4]
abbrev dktL_law_34 : List UInt8 := dkwL_law_34 ++ dktL_law_35
def dkwL_law_33 : List UInt8 := [182, 0, 122, 159, 4, 88, 3, 172, 43, 182, 0, 123, 44, 182, 0, 126, 159, 4, 75, 3, 172, 43, 42, 29]
abbrev dktL_law_33 : List UInt8 := dkwL_law_33 ++ dktL_law_34
def dkwL_law_32 : List UInt8 := [44, 182, 0, 118, 159, 4, 111, 3, 172, 43, 42, 29, 4, 96, 46, 182, 0, 119, 44, 42, 29, 4, 96, 46]
abbrev dktL_law_32 : List UInt8 := dkwL_law_32 ++ dktL_law_33
def dkwL_law_31 : List UInt8 := [4, 96, 46, 182, 0, 111, 44, 42, 29, 4, 96, 46, 182, 0, 114, 159, 4, 124, 3, 172, 43, 182, 0, 115]
abbrev dktL_law_31 : List UInt8 := dkwL_law_31 ++ dktL_law_32
def dkwL_law_30 : List UInt8 := [182, 0, 106, 159, 4, 160, 3, 172, 43, 182, 0, 107, 44, 182, 0, 110, 159, 4, 147, 3, 172, 43, 42, 29]
abbrev dktL_law_30 : List UInt8 := dkwL_law_30 ++ dktL_law_31
def dkwL_law_29 : List UInt8 := [159, 4, 186, 3, 172, 43, 182, 0, 99, 44, 182, 0, 102, 159, 4, 173, 3, 172, 43, 182, 0, 103, 44]
abbrev dktL_law_29 : List UInt8 := dkwL_law_29 ++ dktL_law_30
def dkwL_law_28 : List UInt8 := [46, 42, 29, 5, 96, 46, 182, 0, 95, 44, 42, 29, 4, 96, 46, 42, 29, 5, 96, 46, 182, 0, 98]
abbrev dktL_law_28 : List UInt8 := dkwL_law_28 ++ dktL_law_29
def dkwL_law_27 : List UInt8 := [44, 42, 29, 4, 96, 46, 42, 29, 5, 96, 46, 182, 0, 94, 159, 4, 219, 3, 172, 43, 42, 29, 4, 96]
abbrev dktL_law_27 : List UInt8 := dkwL_law_27 ++ dktL_law_28
def dkwL_law_26 : List UInt8 := [96, 46, 182, 0, 90, 159, 4, 252, 3, 172, 43, 42, 29, 4, 96, 46, 42, 29, 5, 96, 46, 182, 0, 91]
abbrev dktL_law_26 : List UInt8 := dkwL_law_26 ++ dktL_law_27
def dkwL_law_25 : List UInt8 := [96, 46, 182, 0, 86, 44, 42, 29, 4, 96, 46, 42, 29, 5, 96, 46, 42, 29, 6, 96, 46, 42, 29, 7]
abbrev dktL_law_25 : List UInt8 := dkwL_law_25 ++ dktL_law_26
def dkwL_law_24 : List UInt8 := [159, 5, 49, 3, 172, 43, 42, 29, 4, 96, 46, 42, 29, 5, 96, 46, 42, 29, 6, 96, 46, 42, 29, 7]
abbrev dktL_law_24 : List UInt8 := dkwL_law_24 ++ dktL_law_25
def dkwL_law_23 : List UInt8 := [182, 0, 82, 44, 42, 29, 4, 96, 46, 42, 29, 5, 96, 46, 42, 29, 6, 96, 46, 182, 0, 85]
abbrev dktL_law_23 : List UInt8 := dkwL_law_23 ++ dktL_law_24
def dkwL_law_22 : List UInt8 := [182, 0, 81, 159, 5, 92, 3, 172, 43, 42, 29, 4, 96, 46, 42, 29, 5, 96, 46, 42, 29, 6, 96, 46]
abbrev dktL_law_22 : List UInt8 := dkwL_law_22 ++ dktL_law_23
def dkwL_law_21 : List UInt8 := [42, 29, 6, 96, 46, 182, 0, 78, 44, 42, 29, 4, 96, 46, 42, 29, 5, 96, 46, 42, 29, 6, 96, 46]
abbrev dktL_law_21 : List UInt8 := dkwL_law_21 ++ dktL_law_22
def dkwL_law_20 : List UInt8 := [42, 29, 4, 96, 46, 182, 0, 77, 159, 5, 135, 3, 172, 43, 42, 29, 4, 96, 46, 42, 29, 5, 96, 46]
abbrev dktL_law_20 : List UInt8 := dkwL_law_20 ++ dktL_law_21
def dkwL_law_19 : List UInt8 := [46, 42, 29, 6, 96, 46, 182, 0, 73, 159, 5, 158, 3, 172, 43, 42, 29, 4, 96, 46, 182, 0, 74, 44]
abbrev dktL_law_19 : List UInt8 := dkwL_law_19 ++ dktL_law_20
def dkwL_law_18 : List UInt8 := [46, 42, 29, 5, 96, 46, 42, 29, 6, 96, 46, 182, 0, 69, 44, 42, 29, 4, 96, 46, 42, 29, 5, 96]
abbrev dktL_law_18 : List UInt8 := dkwL_law_18 ++ dktL_law_19
def dkwL_law_17 : List UInt8 := [44, 42, 29, 4, 96, 46, 42, 29, 5, 96, 46, 182, 0, 68, 159, 5, 201, 3, 172, 43, 42, 29, 4, 96]
abbrev dktL_law_17 : List UInt8 := dkwL_law_17 ++ dktL_law_18
def dkwL_law_16 : List UInt8 := [96, 46, 182, 0, 64, 159, 5, 234, 3, 172, 43, 42, 29, 4, 96, 46, 42, 29, 5, 96, 46, 182, 0, 65]
abbrev dktL_law_16 : List UInt8 := dkwL_law_16 ++ dktL_law_17
def dkwL_law_15 : List UInt8 := [172, 43, 42, 29, 4, 96, 46, 42, 29, 5, 96, 46, 182, 0, 61, 44, 42, 29, 4, 96, 46, 42, 29, 5]
abbrev dktL_law_15 : List UInt8 := dkwL_law_15 ++ dktL_law_16
def dkwL_law_14 : List UInt8 := [29, 4, 96, 46, 182, 0, 56, 159, 6, 24, 3, 172, 43, 182, 0, 57, 44, 182, 0, 60, 159, 6, 11, 3]
abbrev dktL_law_14 : List UInt8 := dkwL_law_14 ++ dktL_law_15
def dkwL_law_13 : List UInt8 := [42, 29, 4, 96, 46, 182, 0, 52, 159, 6, 47, 3, 172, 43, 42, 29, 4, 96, 46, 182, 0, 53, 44, 42]
abbrev dktL_law_13 : List UInt8 := dkwL_law_13 ++ dktL_law_14
def dkwL_law_12 : List UInt8 := [46, 42, 29, 5, 96, 46, 182, 0, 48, 159, 6, 70, 3, 172, 43, 42, 29, 4, 96, 46, 182, 0, 49, 44]
abbrev dktL_law_12 : List UInt8 := dkwL_law_12 ++ dktL_law_13
def dkwL_law_11 : List UInt8 := [159, 6, 103, 3, 172, 43, 42, 29, 4, 96, 46, 42, 29, 5, 96, 46, 182, 0, 45, 44, 42, 29, 4, 96]
abbrev dktL_law_11 : List UInt8 := dkwL_law_11 ++ dktL_law_12
def dkwL_law_10 : List UInt8 := [159, 6, 126, 3, 172, 43, 42, 29, 4, 96, 46, 182, 0, 41, 44, 42, 29, 4, 96, 46, 182, 0, 44]
abbrev dktL_law_10 : List UInt8 := dkwL_law_10 ++ dktL_law_11
def dkwL_law_9 : List UInt8 := [46, 42, 29, 5, 96, 46, 182, 0, 36, 159, 6, 139, 3, 172, 43, 182, 0, 37, 44, 182, 0, 40]
abbrev dktL_law_9 : List UInt8 := dkwL_law_9 ++ dktL_law_10
def dkwL_law_8 : List UInt8 := [159, 6, 172, 3, 172, 43, 42, 29, 4, 96, 46, 42, 29, 5, 96, 46, 182, 0, 32, 44, 42, 29, 4, 96]
abbrev dktL_law_8 : List UInt8 := dkwL_law_8 ++ dktL_law_9
def dkwL_law_7 : List UInt8 := [159, 6, 195, 3, 172, 43, 42, 29, 4, 96, 46, 182, 0, 28, 44, 42, 29, 4, 96, 46, 182, 0, 31]
abbrev dktL_law_7 : List UInt8 := dkwL_law_7 ++ dktL_law_8
def dkwL_law_6 : List UInt8 := [44, 42, 29, 4, 96, 46, 182, 0, 22, 159, 6, 208, 3, 172, 43, 182, 0, 23, 44, 182, 0, 27]
abbrev dktL_law_6 : List UInt8 := dkwL_law_6 ++ dktL_law_7
def dkwL_law_5 : List UInt8 := [96, 46, 42, 29, 8, 96, 46, 182, 0, 17, 159, 6, 231, 3, 172, 43, 42, 29, 4, 96, 46, 182, 0, 18]
abbrev dktL_law_5 : List UInt8 := dkwL_law_5 ++ dktL_law_6
def dkwL_law_4 : List UInt8 := [96, 46, 182, 0, 13, 44, 42, 29, 4, 96, 46, 42, 29, 5, 96, 46, 42, 29, 6, 96, 46, 42, 29, 7]
abbrev dktL_law_4 : List UInt8 := dkwL_law_4 ++ dktL_law_5
def dkwL_law_3 : List UInt8 := [43, 42, 29, 4, 96, 46, 42, 29, 5, 96, 46, 42, 29, 6, 96, 46, 42, 29, 7, 96, 46, 42, 29, 8]
abbrev dktL_law_3 : List UInt8 := dkwL_law_3 ++ dktL_law_4
def dkwL_law_2 : List UInt8 := [170, 0, 0, 0, 0, 8, 52, 0, 0, 0, 0, 0, 0, 0, 64, 0, 0, 1, 19, 0, 0, 1, 82, 0, 0, 1, 105, 0, 0, 1, 118, 0, 0, 1, 141, 0, 0, 1, 174, 0, 0, 1, 187, 0, 0, 1, 210, 0, 0, 1, 243, 0, 0, 2, 10, 0, 0, 2, 33, 0, 0, 2, 46, 0, 0, 2, 79, 0, 0, 2, 112, 0, 0, 2, 155, 0, 0, 2, 178, 0, 0, 2, 221, 0, 0, 3, 8, 0, 0, 3, 61, 0, 0, 3, 94, 0, 0, 3, 127, 0, 0, 3, 140, 0, 0, 3, 153, 0, 0, 3, 166, 0, 0, 3, 189, 0, 0, 3, 202, 0, 0, 3, 225, 0, 0, 3, 238, 0, 0, 4, 5, 0, 0, 4, 28, 0, 0, 4, 51, 0, 0, 4, 74, 0, 0, 4, 97, 0, 0, 4, 120, 0, 0, 4, 143, 0, 0, 4, 166, 0, 0, 4, 189, 0, 0, 4, 212, 0, 0, 4, 235, 0, 0, 5, 22, 0, 0, 5, 55, 0, 0, 5, 88, 0, 0, 5, 121, 0, 0, 5, 144, 0, 0, 5, 157, 0, 0, 5, 170, 0, 0, 5, 203, 0, 0, 5, 226, 0, 0, 6, 3, 0, 0, 6, 36, 0, 0, 6, 59, 0, 0, 6, 72, 0, 0, 6, 95, 0, 0, 6, 118, 0, 0, 6, 141, 0, 0, 6, 174, 0, 0, 6, 217, 0, 0, 6, 250, 0, 0, 7, 27, 0, 0, 7, 60, 0, 0, 7, 83, 0, 0, 7, 106, 0, 0, 7, 129, 0, 0, 7, 172, 0, 0, 7, 245]
abbrev dktL_law_2 : List UInt8 := dkwL_law_2 ++ dktL_law_3
def dkwL_law_1 : List UInt8 := [163, 8, 67, 42, 29, 46, 16, 127, 126]
abbrev dktL_law_1 : List UInt8 := dkwL_law_1 ++ dktL_law_2
def dkwL_law_0 : List UInt8 := [187, 0, 7, 89, 183, 0, 9, 76, 187, 0, 10, 89, 183, 0, 12, 77, 3, 62, 29, 42, 190, 16, 6, 100]
abbrev dktL_law_0 : List UInt8 := dkwL_law_0 ++ dktL_law_1
theorem dksL_law_0 : cL_law.data.toList.drop 0 = dktL_law_0 := by decide +kernel
theorem dksL_law_1 : cL_law.data.toList.drop 24 = dktL_law_1 := dk_seg dksL_law_0 24 rfl rfl
theorem dksL_law_2 : cL_law.data.toList.drop 33 = dktL_law_2 := dk_seg dksL_law_1 9 rfl rfl
theorem dksL_law_3 : cL_law.data.toList.drop 308 = dktL_law_3 := dk_seg dksL_law_2 275 rfl rfl
theorem dksL_law_4 : cL_law.data.toList.drop 332 = dktL_law_4 := dk_seg dksL_law_3 24 rfl rfl
theorem dksL_law_5 : cL_law.data.toList.drop 356 = dktL_law_5 := dk_seg dksL_law_4 24 rfl rfl
theorem dksL_law_6 : cL_law.data.toList.drop 380 = dktL_law_6 := dk_seg dksL_law_5 24 rfl rfl
theorem dksL_law_7 : cL_law.data.toList.drop 402 = dktL_law_7 := dk_seg dksL_law_6 22 rfl rfl
theorem dksL_law_8 : cL_law.data.toList.drop 425 = dktL_law_8 := dk_seg dksL_law_7 23 rfl rfl
theorem dksL_law_9 : cL_law.data.toList.drop 449 = dktL_law_9 := dk_seg dksL_law_8 24 rfl rfl
theorem dksL_law_10 : cL_law.data.toList.drop 471 = dktL_law_10 := dk_seg dksL_law_9 22 rfl rfl
theorem dksL_law_11 : cL_law.data.toList.drop 494 = dktL_law_11 := dk_seg dksL_law_10 23 rfl rfl
theorem dksL_law_12 : cL_law.data.toList.drop 518 = dktL_law_12 := dk_seg dksL_law_11 24 rfl rfl
theorem dksL_law_13 : cL_law.data.toList.drop 542 = dktL_law_13 := dk_seg dksL_law_12 24 rfl rfl
theorem dksL_law_14 : cL_law.data.toList.drop 566 = dktL_law_14 := dk_seg dksL_law_13 24 rfl rfl
theorem dksL_law_15 : cL_law.data.toList.drop 590 = dktL_law_15 := dk_seg dksL_law_14 24 rfl rfl
theorem dksL_law_16 : cL_law.data.toList.drop 614 = dktL_law_16 := dk_seg dksL_law_15 24 rfl rfl
theorem dksL_law_17 : cL_law.data.toList.drop 638 = dktL_law_17 := dk_seg dksL_law_16 24 rfl rfl
theorem dksL_law_18 : cL_law.data.toList.drop 662 = dktL_law_18 := dk_seg dksL_law_17 24 rfl rfl
theorem dksL_law_19 : cL_law.data.toList.drop 686 = dktL_law_19 := dk_seg dksL_law_18 24 rfl rfl
theorem dksL_law_20 : cL_law.data.toList.drop 710 = dktL_law_20 := dk_seg dksL_law_19 24 rfl rfl
theorem dksL_law_21 : cL_law.data.toList.drop 734 = dktL_law_21 := dk_seg dksL_law_20 24 rfl rfl
theorem dksL_law_22 : cL_law.data.toList.drop 758 = dktL_law_22 := dk_seg dksL_law_21 24 rfl rfl
theorem dksL_law_23 : cL_law.data.toList.drop 782 = dktL_law_23 := dk_seg dksL_law_22 24 rfl rfl
theorem dksL_law_24 : cL_law.data.toList.drop 804 = dktL_law_24 := dk_seg dksL_law_23 22 rfl rfl
theorem dksL_law_25 : cL_law.data.toList.drop 828 = dktL_law_25 := dk_seg dksL_law_24 24 rfl rfl
theorem dksL_law_26 : cL_law.data.toList.drop 852 = dktL_law_26 := dk_seg dksL_law_25 24 rfl rfl
theorem dksL_law_27 : cL_law.data.toList.drop 876 = dktL_law_27 := dk_seg dksL_law_26 24 rfl rfl
theorem dksL_law_28 : cL_law.data.toList.drop 900 = dktL_law_28 := dk_seg dksL_law_27 24 rfl rfl
theorem dksL_law_29 : cL_law.data.toList.drop 923 = dktL_law_29 := dk_seg dksL_law_28 23 rfl rfl
theorem dksL_law_30 : cL_law.data.toList.drop 946 = dktL_law_30 := dk_seg dksL_law_29 23 rfl rfl
theorem dksL_law_31 : cL_law.data.toList.drop 970 = dktL_law_31 := dk_seg dksL_law_30 24 rfl rfl
theorem dksL_law_32 : cL_law.data.toList.drop 994 = dktL_law_32 := dk_seg dksL_law_31 24 rfl rfl
theorem dksL_law_33 : cL_law.data.toList.drop 1018 = dktL_law_33 := dk_seg dksL_law_32 24 rfl rfl
theorem dksL_law_34 : cL_law.data.toList.drop 1042 = dktL_law_34 := dk_seg dksL_law_33 24 rfl rfl
theorem dksL_law_35 : cL_law.data.toList.drop 1066 = dktL_law_35 := dk_seg dksL_law_34 24 rfl rfl
theorem dksL_law_36 : cL_law.data.toList.drop 1090 = dktL_law_36 := dk_seg dksL_law_35 24 rfl rfl
theorem dksL_law_37 : cL_law.data.toList.drop 1114 = dktL_law_37 := dk_seg dksL_law_36 24 rfl rfl
theorem dksL_law_38 : cL_law.data.toList.drop 1137 = dktL_law_38 := dk_seg dksL_law_37 23 rfl rfl
theorem dksL_law_39 : cL_law.data.toList.drop 1160 = dktL_law_39 := dk_seg dksL_law_38 23 rfl rfl
theorem dksL_law_40 : cL_law.data.toList.drop 1183 = dktL_law_40 := dk_seg dksL_law_39 23 rfl rfl
theorem dksL_law_41 : cL_law.data.toList.drop 1206 = dktL_law_41 := dk_seg dksL_law_40 23 rfl rfl
theorem dksL_law_42 : cL_law.data.toList.drop 1229 = dktL_law_42 := dk_seg dksL_law_41 23 rfl rfl
theorem dksL_law_43 : cL_law.data.toList.drop 1252 = dktL_law_43 := dk_seg dksL_law_42 23 rfl rfl
theorem dksL_law_44 : cL_law.data.toList.drop 1275 = dktL_law_44 := dk_seg dksL_law_43 23 rfl rfl
theorem dksL_law_45 : cL_law.data.toList.drop 1299 = dktL_law_45 := dk_seg dksL_law_44 24 rfl rfl
theorem dksL_law_46 : cL_law.data.toList.drop 1323 = dktL_law_46 := dk_seg dksL_law_45 24 rfl rfl
theorem dksL_law_47 : cL_law.data.toList.drop 1346 = dktL_law_47 := dk_seg dksL_law_46 23 rfl rfl
theorem dksL_law_48 : cL_law.data.toList.drop 1370 = dktL_law_48 := dk_seg dksL_law_47 24 rfl rfl
theorem dksL_law_49 : cL_law.data.toList.drop 1393 = dktL_law_49 := dk_seg dksL_law_48 23 rfl rfl
theorem dksL_law_50 : cL_law.data.toList.drop 1417 = dktL_law_50 := dk_seg dksL_law_49 24 rfl rfl
theorem dksL_law_51 : cL_law.data.toList.drop 1440 = dktL_law_51 := dk_seg dksL_law_50 23 rfl rfl
theorem dksL_law_52 : cL_law.data.toList.drop 1462 = dktL_law_52 := dk_seg dksL_law_51 22 rfl rfl
theorem dksL_law_53 : cL_law.data.toList.drop 1486 = dktL_law_53 := dk_seg dksL_law_52 24 rfl rfl
theorem dksL_law_54 : cL_law.data.toList.drop 1508 = dktL_law_54 := dk_seg dksL_law_53 22 rfl rfl
theorem dksL_law_55 : cL_law.data.toList.drop 1531 = dktL_law_55 := dk_seg dksL_law_54 23 rfl rfl
theorem dksL_law_56 : cL_law.data.toList.drop 1555 = dktL_law_56 := dk_seg dksL_law_55 24 rfl rfl
theorem dksL_law_57 : cL_law.data.toList.drop 1579 = dktL_law_57 := dk_seg dksL_law_56 24 rfl rfl
theorem dksL_law_58 : cL_law.data.toList.drop 1603 = dktL_law_58 := dk_seg dksL_law_57 24 rfl rfl
theorem dksL_law_59 : cL_law.data.toList.drop 1627 = dktL_law_59 := dk_seg dksL_law_58 24 rfl rfl
theorem dksL_law_60 : cL_law.data.toList.drop 1651 = dktL_law_60 := dk_seg dksL_law_59 24 rfl rfl
theorem dksL_law_61 : cL_law.data.toList.drop 1675 = dktL_law_61 := dk_seg dksL_law_60 24 rfl rfl
theorem dksL_law_62 : cL_law.data.toList.drop 1699 = dktL_law_62 := dk_seg dksL_law_61 24 rfl rfl
theorem dksL_law_63 : cL_law.data.toList.drop 1721 = dktL_law_63 := dk_seg dksL_law_62 22 rfl rfl
theorem dksL_law_64 : cL_law.data.toList.drop 1745 = dktL_law_64 := dk_seg dksL_law_63 24 rfl rfl
theorem dksL_law_65 : cL_law.data.toList.drop 1769 = dktL_law_65 := dk_seg dksL_law_64 24 rfl rfl
theorem dksL_law_66 : cL_law.data.toList.drop 1793 = dktL_law_66 := dk_seg dksL_law_65 24 rfl rfl
theorem dksL_law_67 : cL_law.data.toList.drop 1817 = dktL_law_67 := dk_seg dksL_law_66 24 rfl rfl
theorem dksL_law_68 : cL_law.data.toList.drop 1841 = dktL_law_68 := dk_seg dksL_law_67 24 rfl rfl
theorem dksL_law_69 : cL_law.data.toList.drop 1863 = dktL_law_69 := dk_seg dksL_law_68 22 rfl rfl
theorem dksL_law_70 : cL_law.data.toList.drop 1887 = dktL_law_70 := dk_seg dksL_law_69 24 rfl rfl
theorem dksL_law_71 : cL_law.data.toList.drop 1911 = dktL_law_71 := dk_seg dksL_law_70 24 rfl rfl
theorem dksL_law_72 : cL_law.data.toList.drop 1935 = dktL_law_72 := dk_seg dksL_law_71 24 rfl rfl
theorem dksL_law_73 : cL_law.data.toList.drop 1959 = dktL_law_73 := dk_seg dksL_law_72 24 rfl rfl
theorem dksL_law_74 : cL_law.data.toList.drop 1983 = dktL_law_74 := dk_seg dksL_law_73 24 rfl rfl
theorem dksL_law_75 : cL_law.data.toList.drop 2007 = dktL_law_75 := dk_seg dksL_law_74 24 rfl rfl
theorem dksL_law_76 : cL_law.data.toList.drop 2031 = dktL_law_76 := dk_seg dksL_law_75 24 rfl rfl
theorem dksL_law_77 : cL_law.data.toList.drop 2055 = dktL_law_77 := dk_seg dksL_law_76 24 rfl rfl
theorem dksL_law_78 : cL_law.data.toList.drop 2079 = dktL_law_78 := dk_seg dksL_law_77 24 rfl rfl
theorem dksL_law_79 : cL_law.data.toList.drop 2103 = dktL_law_79 := dk_seg dksL_law_78 24 rfl rfl
theorem dksL_law_80 : cL_law.data.toList.drop 2125 = dktL_law_80 := dk_seg dksL_law_79 22 rfl rfl
theorem dL_law_0 : decode cL_law 0 = .ok (.new 7, 3) := dk_187 0 7 (dk_at dksL_law_0 0 rfl rfl)
theorem dL_law_3 : decode cL_law 3 = .ok (.dup, 1) := dk_89 (dk_at dksL_law_0 3 rfl rfl)
theorem dL_law_4 : decode cL_law 4 = .ok (.invokespecial 9, 3) := dk_183 0 9 (dk_at dksL_law_0 4 rfl rfl)
theorem dL_law_7 : decode cL_law 7 = .ok (.astore_n 1, 1) := dk_76 (dk_at dksL_law_0 7 rfl rfl)
theorem dL_law_8 : decode cL_law 8 = .ok (.new 10, 3) := dk_187 0 10 (dk_at dksL_law_0 8 rfl rfl)
theorem dL_law_11 : decode cL_law 11 = .ok (.dup, 1) := dk_89 (dk_at dksL_law_0 11 rfl rfl)
theorem dL_law_12 : decode cL_law 12 = .ok (.invokespecial 12, 3) := dk_183 0 12 (dk_at dksL_law_0 12 rfl rfl)
theorem dL_law_15 : decode cL_law 15 = .ok (.astore_n 2, 1) := dk_77 (dk_at dksL_law_0 15 rfl rfl)
theorem dL_law_16 : decode cL_law 16 = .ok (.iconst 0, 1) := dk_3 (dk_at dksL_law_0 16 rfl rfl)
theorem dL_law_17 : decode cL_law 17 = .ok (.istore_n 3, 1) := dk_62 (dk_at dksL_law_0 17 rfl rfl)
theorem dL_law_18 : decode cL_law 18 = .ok (.iload_n 3, 1) := dk_29 (dk_at dksL_law_0 18 rfl rfl)
theorem dL_law_19 : decode cL_law 19 = .ok (.aload_n 0, 1) := dk_42 (dk_at dksL_law_0 19 rfl rfl)
theorem dL_law_20 : decode cL_law 20 = .ok (.arraylength, 1) := dk_190 (dk_at dksL_law_0 20 rfl rfl)
theorem dL_law_21 : decode cL_law 21 = .ok (.bipush 6, 2) := dk_16 6 (dk_at dksL_law_0 21 rfl rfl)
theorem dL_law_23 : decode cL_law 23 = .ok (.isub, 1) := dk_100 (dk_at dksL_law_0 23 rfl rfl)
theorem dL_law_24 : decode cL_law 24 = .ok (.if_icmp .gt 2115, 3) := dk_163 8 67 (dk_at dksL_law_1 0 rfl rfl)
theorem dL_law_27 : decode cL_law 27 = .ok (.aload_n 0, 1) := dk_42 (dk_at dksL_law_1 3 rfl rfl)
theorem dL_law_28 : decode cL_law 28 = .ok (.iload_n 3, 1) := dk_29 (dk_at dksL_law_1 4 rfl rfl)
theorem dL_law_29 : decode cL_law 29 = .ok (.iaload, 1) := dk_46 (dk_at dksL_law_1 5 rfl rfl)
theorem dL_law_30 : decode cL_law 30 = .ok (.bipush 127, 2) := dk_16 127 (dk_at dksL_law_1 6 rfl rfl)
theorem dL_law_32 : decode cL_law 32 = .ok (.iand, 1) := dk_126 (dk_at dksL_law_1 8 rfl rfl)
theorem dL_law_33 : decode cL_law 33 = .ok (.tableswitch 2100 0 64 #[275, 338, 361, 374, 397, 430, 443, 466, 499, 522, 545, 558, 591, 624, 667, 690, 733, 776, 829, 862, 895, 908, 921, 934, 957, 970, 993, 1006, 1029, 1052, 1075, 1098, 1121, 1144, 1167, 1190, 1213, 1236, 1259, 1302, 1335, 1368, 1401, 1424, 1437, 1450, 1483, 1506, 1539, 1572, 1595, 1608, 1631, 1654, 1677, 1710, 1753, 1786, 1819, 1852, 1875, 1898, 1921, 1964, 2037], 275) := by decide +kernel
theorem dL_law_308 : decode cL_law 308 = .ok (.aload_n 1, 1) := dk_43 (dk_at dksL_law_3 0 rfl rfl)
theorem dL_law_309 : decode cL_law 309 = .ok (.aload_n 0, 1) := dk_42 (dk_at dksL_law_3 1 rfl rfl)
theorem dL_law_310 : decode cL_law 310 = .ok (.iload_n 3, 1) := dk_29 (dk_at dksL_law_3 2 rfl rfl)
theorem dL_law_311 : decode cL_law 311 = .ok (.iconst 1, 1) := dk_4 (dk_at dksL_law_3 3 rfl rfl)
theorem dL_law_312 : decode cL_law 312 = .ok (.iadd, 1) := dk_96 (dk_at dksL_law_3 4 rfl rfl)
theorem dL_law_313 : decode cL_law 313 = .ok (.iaload, 1) := dk_46 (dk_at dksL_law_3 5 rfl rfl)
theorem dL_law_314 : decode cL_law 314 = .ok (.aload_n 0, 1) := dk_42 (dk_at dksL_law_3 6 rfl rfl)
theorem dL_law_315 : decode cL_law 315 = .ok (.iload_n 3, 1) := dk_29 (dk_at dksL_law_3 7 rfl rfl)
theorem dL_law_316 : decode cL_law 316 = .ok (.iconst 2, 1) := dk_5 (dk_at dksL_law_3 8 rfl rfl)
theorem dL_law_317 : decode cL_law 317 = .ok (.iadd, 1) := dk_96 (dk_at dksL_law_3 9 rfl rfl)
theorem dL_law_318 : decode cL_law 318 = .ok (.iaload, 1) := dk_46 (dk_at dksL_law_3 10 rfl rfl)
theorem dL_law_319 : decode cL_law 319 = .ok (.aload_n 0, 1) := dk_42 (dk_at dksL_law_3 11 rfl rfl)
theorem dL_law_320 : decode cL_law 320 = .ok (.iload_n 3, 1) := dk_29 (dk_at dksL_law_3 12 rfl rfl)
theorem dL_law_321 : decode cL_law 321 = .ok (.iconst 3, 1) := dk_6 (dk_at dksL_law_3 13 rfl rfl)
theorem dL_law_322 : decode cL_law 322 = .ok (.iadd, 1) := dk_96 (dk_at dksL_law_3 14 rfl rfl)
theorem dL_law_323 : decode cL_law 323 = .ok (.iaload, 1) := dk_46 (dk_at dksL_law_3 15 rfl rfl)
theorem dL_law_324 : decode cL_law 324 = .ok (.aload_n 0, 1) := dk_42 (dk_at dksL_law_3 16 rfl rfl)
theorem dL_law_325 : decode cL_law 325 = .ok (.iload_n 3, 1) := dk_29 (dk_at dksL_law_3 17 rfl rfl)
theorem dL_law_326 : decode cL_law 326 = .ok (.iconst 4, 1) := dk_7 (dk_at dksL_law_3 18 rfl rfl)
theorem dL_law_327 : decode cL_law 327 = .ok (.iadd, 1) := dk_96 (dk_at dksL_law_3 19 rfl rfl)
theorem dL_law_328 : decode cL_law 328 = .ok (.iaload, 1) := dk_46 (dk_at dksL_law_3 20 rfl rfl)
theorem dL_law_329 : decode cL_law 329 = .ok (.aload_n 0, 1) := dk_42 (dk_at dksL_law_3 21 rfl rfl)
theorem dL_law_330 : decode cL_law 330 = .ok (.iload_n 3, 1) := dk_29 (dk_at dksL_law_3 22 rfl rfl)
theorem dL_law_331 : decode cL_law 331 = .ok (.iconst 5, 1) := dk_8 (dk_at dksL_law_3 23 rfl rfl)
theorem dL_law_332 : decode cL_law 332 = .ok (.iadd, 1) := dk_96 (dk_at dksL_law_4 0 rfl rfl)
theorem dL_law_333 : decode cL_law 333 = .ok (.iaload, 1) := dk_46 (dk_at dksL_law_4 1 rfl rfl)
theorem dL_law_334 : decode cL_law 334 = .ok (.invokevirtual 13, 3) := dk_182 0 13 (dk_at dksL_law_4 2 rfl rfl)
theorem dL_law_337 : decode cL_law 337 = .ok (.aload_n 2, 1) := dk_44 (dk_at dksL_law_4 5 rfl rfl)
theorem dL_law_338 : decode cL_law 338 = .ok (.aload_n 0, 1) := dk_42 (dk_at dksL_law_4 6 rfl rfl)
theorem dL_law_339 : decode cL_law 339 = .ok (.iload_n 3, 1) := dk_29 (dk_at dksL_law_4 7 rfl rfl)
theorem dL_law_340 : decode cL_law 340 = .ok (.iconst 1, 1) := dk_4 (dk_at dksL_law_4 8 rfl rfl)
theorem dL_law_341 : decode cL_law 341 = .ok (.iadd, 1) := dk_96 (dk_at dksL_law_4 9 rfl rfl)
theorem dL_law_342 : decode cL_law 342 = .ok (.iaload, 1) := dk_46 (dk_at dksL_law_4 10 rfl rfl)
theorem dL_law_343 : decode cL_law 343 = .ok (.aload_n 0, 1) := dk_42 (dk_at dksL_law_4 11 rfl rfl)
theorem dL_law_344 : decode cL_law 344 = .ok (.iload_n 3, 1) := dk_29 (dk_at dksL_law_4 12 rfl rfl)
theorem dL_law_345 : decode cL_law 345 = .ok (.iconst 2, 1) := dk_5 (dk_at dksL_law_4 13 rfl rfl)
theorem dL_law_346 : decode cL_law 346 = .ok (.iadd, 1) := dk_96 (dk_at dksL_law_4 14 rfl rfl)
theorem dL_law_347 : decode cL_law 347 = .ok (.iaload, 1) := dk_46 (dk_at dksL_law_4 15 rfl rfl)
theorem dL_law_348 : decode cL_law 348 = .ok (.aload_n 0, 1) := dk_42 (dk_at dksL_law_4 16 rfl rfl)
theorem dL_law_349 : decode cL_law 349 = .ok (.iload_n 3, 1) := dk_29 (dk_at dksL_law_4 17 rfl rfl)
theorem dL_law_350 : decode cL_law 350 = .ok (.iconst 3, 1) := dk_6 (dk_at dksL_law_4 18 rfl rfl)
theorem dL_law_351 : decode cL_law 351 = .ok (.iadd, 1) := dk_96 (dk_at dksL_law_4 19 rfl rfl)
theorem dL_law_352 : decode cL_law 352 = .ok (.iaload, 1) := dk_46 (dk_at dksL_law_4 20 rfl rfl)
theorem dL_law_353 : decode cL_law 353 = .ok (.aload_n 0, 1) := dk_42 (dk_at dksL_law_4 21 rfl rfl)
theorem dL_law_354 : decode cL_law 354 = .ok (.iload_n 3, 1) := dk_29 (dk_at dksL_law_4 22 rfl rfl)
theorem dL_law_355 : decode cL_law 355 = .ok (.iconst 4, 1) := dk_7 (dk_at dksL_law_4 23 rfl rfl)
theorem dL_law_356 : decode cL_law 356 = .ok (.iadd, 1) := dk_96 (dk_at dksL_law_5 0 rfl rfl)
theorem dL_law_357 : decode cL_law 357 = .ok (.iaload, 1) := dk_46 (dk_at dksL_law_5 1 rfl rfl)
theorem dL_law_358 : decode cL_law 358 = .ok (.aload_n 0, 1) := dk_42 (dk_at dksL_law_5 2 rfl rfl)
theorem dL_law_359 : decode cL_law 359 = .ok (.iload_n 3, 1) := dk_29 (dk_at dksL_law_5 3 rfl rfl)
theorem dL_law_360 : decode cL_law 360 = .ok (.iconst 5, 1) := dk_8 (dk_at dksL_law_5 4 rfl rfl)
theorem dL_law_361 : decode cL_law 361 = .ok (.iadd, 1) := dk_96 (dk_at dksL_law_5 5 rfl rfl)
theorem dL_law_362 : decode cL_law 362 = .ok (.iaload, 1) := dk_46 (dk_at dksL_law_5 6 rfl rfl)
theorem dL_law_363 : decode cL_law 363 = .ok (.invokevirtual 17, 3) := dk_182 0 17 (dk_at dksL_law_5 7 rfl rfl)
theorem dL_law_366 : decode cL_law 366 = .ok (.if_icmp .eq 1767, 3) := dk_159 6 231 (dk_at dksL_law_5 10 rfl rfl)
theorem dL_law_369 : decode cL_law 369 = .ok (.iconst 0, 1) := dk_3 (dk_at dksL_law_5 13 rfl rfl)
theorem dL_law_370 : decode cL_law 370 = .ok (.ireturn, 1) := dk_172 (dk_at dksL_law_5 14 rfl rfl)
theorem dL_law_371 : decode cL_law 371 = .ok (.aload_n 1, 1) := dk_43 (dk_at dksL_law_5 15 rfl rfl)
theorem dL_law_372 : decode cL_law 372 = .ok (.aload_n 0, 1) := dk_42 (dk_at dksL_law_5 16 rfl rfl)
theorem dL_law_373 : decode cL_law 373 = .ok (.iload_n 3, 1) := dk_29 (dk_at dksL_law_5 17 rfl rfl)
theorem dL_law_374 : decode cL_law 374 = .ok (.iconst 1, 1) := dk_4 (dk_at dksL_law_5 18 rfl rfl)
theorem dL_law_375 : decode cL_law 375 = .ok (.iadd, 1) := dk_96 (dk_at dksL_law_5 19 rfl rfl)
theorem dL_law_376 : decode cL_law 376 = .ok (.iaload, 1) := dk_46 (dk_at dksL_law_5 20 rfl rfl)
theorem dL_law_377 : decode cL_law 377 = .ok (.invokevirtual 18, 3) := dk_182 0 18 (dk_at dksL_law_5 21 rfl rfl)
theorem dL_law_380 : decode cL_law 380 = .ok (.aload_n 2, 1) := dk_44 (dk_at dksL_law_6 0 rfl rfl)
theorem dL_law_381 : decode cL_law 381 = .ok (.aload_n 0, 1) := dk_42 (dk_at dksL_law_6 1 rfl rfl)
theorem dL_law_382 : decode cL_law 382 = .ok (.iload_n 3, 1) := dk_29 (dk_at dksL_law_6 2 rfl rfl)
theorem dL_law_383 : decode cL_law 383 = .ok (.iconst 1, 1) := dk_4 (dk_at dksL_law_6 3 rfl rfl)
theorem dL_law_384 : decode cL_law 384 = .ok (.iadd, 1) := dk_96 (dk_at dksL_law_6 4 rfl rfl)
theorem dL_law_385 : decode cL_law 385 = .ok (.iaload, 1) := dk_46 (dk_at dksL_law_6 5 rfl rfl)
theorem dL_law_386 : decode cL_law 386 = .ok (.invokevirtual 22, 3) := dk_182 0 22 (dk_at dksL_law_6 6 rfl rfl)
theorem dL_law_389 : decode cL_law 389 = .ok (.if_icmp .eq 1744, 3) := dk_159 6 208 (dk_at dksL_law_6 9 rfl rfl)
theorem dL_law_392 : decode cL_law 392 = .ok (.iconst 0, 1) := dk_3 (dk_at dksL_law_6 12 rfl rfl)
theorem dL_law_393 : decode cL_law 393 = .ok (.ireturn, 1) := dk_172 (dk_at dksL_law_6 13 rfl rfl)
theorem dL_law_394 : decode cL_law 394 = .ok (.aload_n 1, 1) := dk_43 (dk_at dksL_law_6 14 rfl rfl)
theorem dL_law_395 : decode cL_law 395 = .ok (.invokevirtual 23, 3) := dk_182 0 23 (dk_at dksL_law_6 15 rfl rfl)
theorem dL_law_398 : decode cL_law 398 = .ok (.aload_n 2, 1) := dk_44 (dk_at dksL_law_6 18 rfl rfl)
theorem dL_law_399 : decode cL_law 399 = .ok (.invokevirtual 27, 3) := dk_182 0 27 (dk_at dksL_law_6 19 rfl rfl)
theorem dL_law_402 : decode cL_law 402 = .ok (.if_icmp .eq 1731, 3) := dk_159 6 195 (dk_at dksL_law_7 0 rfl rfl)
theorem dL_law_405 : decode cL_law 405 = .ok (.iconst 0, 1) := dk_3 (dk_at dksL_law_7 3 rfl rfl)
theorem dL_law_406 : decode cL_law 406 = .ok (.ireturn, 1) := dk_172 (dk_at dksL_law_7 4 rfl rfl)
theorem dL_law_407 : decode cL_law 407 = .ok (.aload_n 1, 1) := dk_43 (dk_at dksL_law_7 5 rfl rfl)
theorem dL_law_408 : decode cL_law 408 = .ok (.aload_n 0, 1) := dk_42 (dk_at dksL_law_7 6 rfl rfl)
theorem dL_law_409 : decode cL_law 409 = .ok (.iload_n 3, 1) := dk_29 (dk_at dksL_law_7 7 rfl rfl)
theorem dL_law_410 : decode cL_law 410 = .ok (.iconst 1, 1) := dk_4 (dk_at dksL_law_7 8 rfl rfl)
theorem dL_law_411 : decode cL_law 411 = .ok (.iadd, 1) := dk_96 (dk_at dksL_law_7 9 rfl rfl)
theorem dL_law_412 : decode cL_law 412 = .ok (.iaload, 1) := dk_46 (dk_at dksL_law_7 10 rfl rfl)
theorem dL_law_413 : decode cL_law 413 = .ok (.invokevirtual 28, 3) := dk_182 0 28 (dk_at dksL_law_7 11 rfl rfl)
theorem dL_law_416 : decode cL_law 416 = .ok (.aload_n 2, 1) := dk_44 (dk_at dksL_law_7 14 rfl rfl)
theorem dL_law_417 : decode cL_law 417 = .ok (.aload_n 0, 1) := dk_42 (dk_at dksL_law_7 15 rfl rfl)
theorem dL_law_418 : decode cL_law 418 = .ok (.iload_n 3, 1) := dk_29 (dk_at dksL_law_7 16 rfl rfl)
theorem dL_law_419 : decode cL_law 419 = .ok (.iconst 1, 1) := dk_4 (dk_at dksL_law_7 17 rfl rfl)
theorem dL_law_420 : decode cL_law 420 = .ok (.iadd, 1) := dk_96 (dk_at dksL_law_7 18 rfl rfl)
theorem dL_law_421 : decode cL_law 421 = .ok (.iaload, 1) := dk_46 (dk_at dksL_law_7 19 rfl rfl)
theorem dL_law_422 : decode cL_law 422 = .ok (.invokevirtual 31, 3) := dk_182 0 31 (dk_at dksL_law_7 20 rfl rfl)
theorem dL_law_425 : decode cL_law 425 = .ok (.if_icmp .eq 1708, 3) := dk_159 6 172 (dk_at dksL_law_8 0 rfl rfl)
theorem dL_law_428 : decode cL_law 428 = .ok (.iconst 0, 1) := dk_3 (dk_at dksL_law_8 3 rfl rfl)
theorem dL_law_429 : decode cL_law 429 = .ok (.ireturn, 1) := dk_172 (dk_at dksL_law_8 4 rfl rfl)
theorem dL_law_430 : decode cL_law 430 = .ok (.aload_n 1, 1) := dk_43 (dk_at dksL_law_8 5 rfl rfl)
theorem dL_law_431 : decode cL_law 431 = .ok (.aload_n 0, 1) := dk_42 (dk_at dksL_law_8 6 rfl rfl)
theorem dL_law_432 : decode cL_law 432 = .ok (.iload_n 3, 1) := dk_29 (dk_at dksL_law_8 7 rfl rfl)
theorem dL_law_433 : decode cL_law 433 = .ok (.iconst 1, 1) := dk_4 (dk_at dksL_law_8 8 rfl rfl)
theorem dL_law_434 : decode cL_law 434 = .ok (.iadd, 1) := dk_96 (dk_at dksL_law_8 9 rfl rfl)
theorem dL_law_435 : decode cL_law 435 = .ok (.iaload, 1) := dk_46 (dk_at dksL_law_8 10 rfl rfl)
theorem dL_law_436 : decode cL_law 436 = .ok (.aload_n 0, 1) := dk_42 (dk_at dksL_law_8 11 rfl rfl)
theorem dL_law_437 : decode cL_law 437 = .ok (.iload_n 3, 1) := dk_29 (dk_at dksL_law_8 12 rfl rfl)
theorem dL_law_438 : decode cL_law 438 = .ok (.iconst 2, 1) := dk_5 (dk_at dksL_law_8 13 rfl rfl)
theorem dL_law_439 : decode cL_law 439 = .ok (.iadd, 1) := dk_96 (dk_at dksL_law_8 14 rfl rfl)
theorem dL_law_440 : decode cL_law 440 = .ok (.iaload, 1) := dk_46 (dk_at dksL_law_8 15 rfl rfl)
theorem dL_law_441 : decode cL_law 441 = .ok (.invokevirtual 32, 3) := dk_182 0 32 (dk_at dksL_law_8 16 rfl rfl)
theorem dL_law_444 : decode cL_law 444 = .ok (.aload_n 2, 1) := dk_44 (dk_at dksL_law_8 19 rfl rfl)
theorem dL_law_445 : decode cL_law 445 = .ok (.aload_n 0, 1) := dk_42 (dk_at dksL_law_8 20 rfl rfl)
theorem dL_law_446 : decode cL_law 446 = .ok (.iload_n 3, 1) := dk_29 (dk_at dksL_law_8 21 rfl rfl)
theorem dL_law_447 : decode cL_law 447 = .ok (.iconst 1, 1) := dk_4 (dk_at dksL_law_8 22 rfl rfl)
theorem dL_law_448 : decode cL_law 448 = .ok (.iadd, 1) := dk_96 (dk_at dksL_law_8 23 rfl rfl)
theorem dL_law_449 : decode cL_law 449 = .ok (.iaload, 1) := dk_46 (dk_at dksL_law_9 0 rfl rfl)
theorem dL_law_450 : decode cL_law 450 = .ok (.aload_n 0, 1) := dk_42 (dk_at dksL_law_9 1 rfl rfl)
theorem dL_law_451 : decode cL_law 451 = .ok (.iload_n 3, 1) := dk_29 (dk_at dksL_law_9 2 rfl rfl)
theorem dL_law_452 : decode cL_law 452 = .ok (.iconst 2, 1) := dk_5 (dk_at dksL_law_9 3 rfl rfl)
theorem dL_law_453 : decode cL_law 453 = .ok (.iadd, 1) := dk_96 (dk_at dksL_law_9 4 rfl rfl)
theorem dL_law_454 : decode cL_law 454 = .ok (.iaload, 1) := dk_46 (dk_at dksL_law_9 5 rfl rfl)
theorem dL_law_455 : decode cL_law 455 = .ok (.invokevirtual 36, 3) := dk_182 0 36 (dk_at dksL_law_9 6 rfl rfl)
theorem dL_law_458 : decode cL_law 458 = .ok (.if_icmp .eq 1675, 3) := dk_159 6 139 (dk_at dksL_law_9 9 rfl rfl)
theorem dL_law_461 : decode cL_law 461 = .ok (.iconst 0, 1) := dk_3 (dk_at dksL_law_9 12 rfl rfl)
theorem dL_law_462 : decode cL_law 462 = .ok (.ireturn, 1) := dk_172 (dk_at dksL_law_9 13 rfl rfl)
theorem dL_law_463 : decode cL_law 463 = .ok (.aload_n 1, 1) := dk_43 (dk_at dksL_law_9 14 rfl rfl)
theorem dL_law_464 : decode cL_law 464 = .ok (.invokevirtual 37, 3) := dk_182 0 37 (dk_at dksL_law_9 15 rfl rfl)
theorem dL_law_467 : decode cL_law 467 = .ok (.aload_n 2, 1) := dk_44 (dk_at dksL_law_9 18 rfl rfl)
theorem dL_law_468 : decode cL_law 468 = .ok (.invokevirtual 40, 3) := dk_182 0 40 (dk_at dksL_law_9 19 rfl rfl)
theorem dL_law_471 : decode cL_law 471 = .ok (.if_icmp .eq 1662, 3) := dk_159 6 126 (dk_at dksL_law_10 0 rfl rfl)
theorem dL_law_474 : decode cL_law 474 = .ok (.iconst 0, 1) := dk_3 (dk_at dksL_law_10 3 rfl rfl)
theorem dL_law_475 : decode cL_law 475 = .ok (.ireturn, 1) := dk_172 (dk_at dksL_law_10 4 rfl rfl)
theorem dL_law_476 : decode cL_law 476 = .ok (.aload_n 1, 1) := dk_43 (dk_at dksL_law_10 5 rfl rfl)
theorem dL_law_477 : decode cL_law 477 = .ok (.aload_n 0, 1) := dk_42 (dk_at dksL_law_10 6 rfl rfl)
theorem dL_law_478 : decode cL_law 478 = .ok (.iload_n 3, 1) := dk_29 (dk_at dksL_law_10 7 rfl rfl)
theorem dL_law_479 : decode cL_law 479 = .ok (.iconst 1, 1) := dk_4 (dk_at dksL_law_10 8 rfl rfl)
theorem dL_law_480 : decode cL_law 480 = .ok (.iadd, 1) := dk_96 (dk_at dksL_law_10 9 rfl rfl)
theorem dL_law_481 : decode cL_law 481 = .ok (.iaload, 1) := dk_46 (dk_at dksL_law_10 10 rfl rfl)
theorem dL_law_482 : decode cL_law 482 = .ok (.invokevirtual 41, 3) := dk_182 0 41 (dk_at dksL_law_10 11 rfl rfl)
theorem dL_law_485 : decode cL_law 485 = .ok (.aload_n 2, 1) := dk_44 (dk_at dksL_law_10 14 rfl rfl)
theorem dL_law_486 : decode cL_law 486 = .ok (.aload_n 0, 1) := dk_42 (dk_at dksL_law_10 15 rfl rfl)
theorem dL_law_487 : decode cL_law 487 = .ok (.iload_n 3, 1) := dk_29 (dk_at dksL_law_10 16 rfl rfl)
theorem dL_law_488 : decode cL_law 488 = .ok (.iconst 1, 1) := dk_4 (dk_at dksL_law_10 17 rfl rfl)
theorem dL_law_489 : decode cL_law 489 = .ok (.iadd, 1) := dk_96 (dk_at dksL_law_10 18 rfl rfl)
theorem dL_law_490 : decode cL_law 490 = .ok (.iaload, 1) := dk_46 (dk_at dksL_law_10 19 rfl rfl)
theorem dL_law_491 : decode cL_law 491 = .ok (.invokevirtual 44, 3) := dk_182 0 44 (dk_at dksL_law_10 20 rfl rfl)
theorem dL_law_494 : decode cL_law 494 = .ok (.if_icmp .eq 1639, 3) := dk_159 6 103 (dk_at dksL_law_11 0 rfl rfl)
theorem dL_law_497 : decode cL_law 497 = .ok (.iconst 0, 1) := dk_3 (dk_at dksL_law_11 3 rfl rfl)
theorem dL_law_498 : decode cL_law 498 = .ok (.ireturn, 1) := dk_172 (dk_at dksL_law_11 4 rfl rfl)
theorem dL_law_499 : decode cL_law 499 = .ok (.aload_n 1, 1) := dk_43 (dk_at dksL_law_11 5 rfl rfl)
theorem dL_law_500 : decode cL_law 500 = .ok (.aload_n 0, 1) := dk_42 (dk_at dksL_law_11 6 rfl rfl)
theorem dL_law_501 : decode cL_law 501 = .ok (.iload_n 3, 1) := dk_29 (dk_at dksL_law_11 7 rfl rfl)
theorem dL_law_502 : decode cL_law 502 = .ok (.iconst 1, 1) := dk_4 (dk_at dksL_law_11 8 rfl rfl)
theorem dL_law_503 : decode cL_law 503 = .ok (.iadd, 1) := dk_96 (dk_at dksL_law_11 9 rfl rfl)
theorem dL_law_504 : decode cL_law 504 = .ok (.iaload, 1) := dk_46 (dk_at dksL_law_11 10 rfl rfl)
theorem dL_law_505 : decode cL_law 505 = .ok (.aload_n 0, 1) := dk_42 (dk_at dksL_law_11 11 rfl rfl)
theorem dL_law_506 : decode cL_law 506 = .ok (.iload_n 3, 1) := dk_29 (dk_at dksL_law_11 12 rfl rfl)
theorem dL_law_507 : decode cL_law 507 = .ok (.iconst 2, 1) := dk_5 (dk_at dksL_law_11 13 rfl rfl)
theorem dL_law_508 : decode cL_law 508 = .ok (.iadd, 1) := dk_96 (dk_at dksL_law_11 14 rfl rfl)
theorem dL_law_509 : decode cL_law 509 = .ok (.iaload, 1) := dk_46 (dk_at dksL_law_11 15 rfl rfl)
theorem dL_law_510 : decode cL_law 510 = .ok (.invokevirtual 45, 3) := dk_182 0 45 (dk_at dksL_law_11 16 rfl rfl)
theorem dL_law_513 : decode cL_law 513 = .ok (.aload_n 2, 1) := dk_44 (dk_at dksL_law_11 19 rfl rfl)
theorem dL_law_514 : decode cL_law 514 = .ok (.aload_n 0, 1) := dk_42 (dk_at dksL_law_11 20 rfl rfl)
theorem dL_law_515 : decode cL_law 515 = .ok (.iload_n 3, 1) := dk_29 (dk_at dksL_law_11 21 rfl rfl)
theorem dL_law_516 : decode cL_law 516 = .ok (.iconst 1, 1) := dk_4 (dk_at dksL_law_11 22 rfl rfl)
theorem dL_law_517 : decode cL_law 517 = .ok (.iadd, 1) := dk_96 (dk_at dksL_law_11 23 rfl rfl)
theorem dL_law_518 : decode cL_law 518 = .ok (.iaload, 1) := dk_46 (dk_at dksL_law_12 0 rfl rfl)
theorem dL_law_519 : decode cL_law 519 = .ok (.aload_n 0, 1) := dk_42 (dk_at dksL_law_12 1 rfl rfl)
theorem dL_law_520 : decode cL_law 520 = .ok (.iload_n 3, 1) := dk_29 (dk_at dksL_law_12 2 rfl rfl)
theorem dL_law_521 : decode cL_law 521 = .ok (.iconst 2, 1) := dk_5 (dk_at dksL_law_12 3 rfl rfl)
theorem dL_law_522 : decode cL_law 522 = .ok (.iadd, 1) := dk_96 (dk_at dksL_law_12 4 rfl rfl)
theorem dL_law_523 : decode cL_law 523 = .ok (.iaload, 1) := dk_46 (dk_at dksL_law_12 5 rfl rfl)
theorem dL_law_524 : decode cL_law 524 = .ok (.invokevirtual 48, 3) := dk_182 0 48 (dk_at dksL_law_12 6 rfl rfl)
theorem dL_law_527 : decode cL_law 527 = .ok (.if_icmp .eq 1606, 3) := dk_159 6 70 (dk_at dksL_law_12 9 rfl rfl)
theorem dL_law_530 : decode cL_law 530 = .ok (.iconst 0, 1) := dk_3 (dk_at dksL_law_12 12 rfl rfl)
theorem dL_law_531 : decode cL_law 531 = .ok (.ireturn, 1) := dk_172 (dk_at dksL_law_12 13 rfl rfl)
theorem dL_law_532 : decode cL_law 532 = .ok (.aload_n 1, 1) := dk_43 (dk_at dksL_law_12 14 rfl rfl)
theorem dL_law_533 : decode cL_law 533 = .ok (.aload_n 0, 1) := dk_42 (dk_at dksL_law_12 15 rfl rfl)
theorem dL_law_534 : decode cL_law 534 = .ok (.iload_n 3, 1) := dk_29 (dk_at dksL_law_12 16 rfl rfl)
theorem dL_law_535 : decode cL_law 535 = .ok (.iconst 1, 1) := dk_4 (dk_at dksL_law_12 17 rfl rfl)
theorem dL_law_536 : decode cL_law 536 = .ok (.iadd, 1) := dk_96 (dk_at dksL_law_12 18 rfl rfl)
theorem dL_law_537 : decode cL_law 537 = .ok (.iaload, 1) := dk_46 (dk_at dksL_law_12 19 rfl rfl)
theorem dL_law_538 : decode cL_law 538 = .ok (.invokevirtual 49, 3) := dk_182 0 49 (dk_at dksL_law_12 20 rfl rfl)
theorem dL_law_541 : decode cL_law 541 = .ok (.aload_n 2, 1) := dk_44 (dk_at dksL_law_12 23 rfl rfl)
theorem dL_law_542 : decode cL_law 542 = .ok (.aload_n 0, 1) := dk_42 (dk_at dksL_law_13 0 rfl rfl)
theorem dL_law_543 : decode cL_law 543 = .ok (.iload_n 3, 1) := dk_29 (dk_at dksL_law_13 1 rfl rfl)
theorem dL_law_544 : decode cL_law 544 = .ok (.iconst 1, 1) := dk_4 (dk_at dksL_law_13 2 rfl rfl)
theorem dL_law_545 : decode cL_law 545 = .ok (.iadd, 1) := dk_96 (dk_at dksL_law_13 3 rfl rfl)
theorem dL_law_546 : decode cL_law 546 = .ok (.iaload, 1) := dk_46 (dk_at dksL_law_13 4 rfl rfl)
theorem dL_law_547 : decode cL_law 547 = .ok (.invokevirtual 52, 3) := dk_182 0 52 (dk_at dksL_law_13 5 rfl rfl)
theorem dL_law_550 : decode cL_law 550 = .ok (.if_icmp .eq 1583, 3) := dk_159 6 47 (dk_at dksL_law_13 8 rfl rfl)
theorem dL_law_553 : decode cL_law 553 = .ok (.iconst 0, 1) := dk_3 (dk_at dksL_law_13 11 rfl rfl)
theorem dL_law_554 : decode cL_law 554 = .ok (.ireturn, 1) := dk_172 (dk_at dksL_law_13 12 rfl rfl)
theorem dL_law_555 : decode cL_law 555 = .ok (.aload_n 1, 1) := dk_43 (dk_at dksL_law_13 13 rfl rfl)
theorem dL_law_556 : decode cL_law 556 = .ok (.aload_n 0, 1) := dk_42 (dk_at dksL_law_13 14 rfl rfl)
theorem dL_law_557 : decode cL_law 557 = .ok (.iload_n 3, 1) := dk_29 (dk_at dksL_law_13 15 rfl rfl)
theorem dL_law_558 : decode cL_law 558 = .ok (.iconst 1, 1) := dk_4 (dk_at dksL_law_13 16 rfl rfl)
theorem dL_law_559 : decode cL_law 559 = .ok (.iadd, 1) := dk_96 (dk_at dksL_law_13 17 rfl rfl)
theorem dL_law_560 : decode cL_law 560 = .ok (.iaload, 1) := dk_46 (dk_at dksL_law_13 18 rfl rfl)
theorem dL_law_561 : decode cL_law 561 = .ok (.invokevirtual 53, 3) := dk_182 0 53 (dk_at dksL_law_13 19 rfl rfl)
theorem dL_law_564 : decode cL_law 564 = .ok (.aload_n 2, 1) := dk_44 (dk_at dksL_law_13 22 rfl rfl)
theorem dL_law_565 : decode cL_law 565 = .ok (.aload_n 0, 1) := dk_42 (dk_at dksL_law_13 23 rfl rfl)
theorem dL_law_566 : decode cL_law 566 = .ok (.iload_n 3, 1) := dk_29 (dk_at dksL_law_14 0 rfl rfl)
theorem dL_law_567 : decode cL_law 567 = .ok (.iconst 1, 1) := dk_4 (dk_at dksL_law_14 1 rfl rfl)
theorem dL_law_568 : decode cL_law 568 = .ok (.iadd, 1) := dk_96 (dk_at dksL_law_14 2 rfl rfl)
theorem dL_law_569 : decode cL_law 569 = .ok (.iaload, 1) := dk_46 (dk_at dksL_law_14 3 rfl rfl)
theorem dL_law_570 : decode cL_law 570 = .ok (.invokevirtual 56, 3) := dk_182 0 56 (dk_at dksL_law_14 4 rfl rfl)
theorem dL_law_573 : decode cL_law 573 = .ok (.if_icmp .eq 1560, 3) := dk_159 6 24 (dk_at dksL_law_14 7 rfl rfl)
theorem dL_law_576 : decode cL_law 576 = .ok (.iconst 0, 1) := dk_3 (dk_at dksL_law_14 10 rfl rfl)
theorem dL_law_577 : decode cL_law 577 = .ok (.ireturn, 1) := dk_172 (dk_at dksL_law_14 11 rfl rfl)
theorem dL_law_578 : decode cL_law 578 = .ok (.aload_n 1, 1) := dk_43 (dk_at dksL_law_14 12 rfl rfl)
theorem dL_law_579 : decode cL_law 579 = .ok (.invokevirtual 57, 3) := dk_182 0 57 (dk_at dksL_law_14 13 rfl rfl)
theorem dL_law_582 : decode cL_law 582 = .ok (.aload_n 2, 1) := dk_44 (dk_at dksL_law_14 16 rfl rfl)
theorem dL_law_583 : decode cL_law 583 = .ok (.invokevirtual 60, 3) := dk_182 0 60 (dk_at dksL_law_14 17 rfl rfl)
theorem dL_law_586 : decode cL_law 586 = .ok (.if_icmp .eq 1547, 3) := dk_159 6 11 (dk_at dksL_law_14 20 rfl rfl)
theorem dL_law_589 : decode cL_law 589 = .ok (.iconst 0, 1) := dk_3 (dk_at dksL_law_14 23 rfl rfl)
theorem dL_law_590 : decode cL_law 590 = .ok (.ireturn, 1) := dk_172 (dk_at dksL_law_15 0 rfl rfl)
theorem dL_law_591 : decode cL_law 591 = .ok (.aload_n 1, 1) := dk_43 (dk_at dksL_law_15 1 rfl rfl)
theorem dL_law_592 : decode cL_law 592 = .ok (.aload_n 0, 1) := dk_42 (dk_at dksL_law_15 2 rfl rfl)
theorem dL_law_593 : decode cL_law 593 = .ok (.iload_n 3, 1) := dk_29 (dk_at dksL_law_15 3 rfl rfl)
theorem dL_law_594 : decode cL_law 594 = .ok (.iconst 1, 1) := dk_4 (dk_at dksL_law_15 4 rfl rfl)
theorem dL_law_595 : decode cL_law 595 = .ok (.iadd, 1) := dk_96 (dk_at dksL_law_15 5 rfl rfl)
theorem dL_law_596 : decode cL_law 596 = .ok (.iaload, 1) := dk_46 (dk_at dksL_law_15 6 rfl rfl)
theorem dL_law_597 : decode cL_law 597 = .ok (.aload_n 0, 1) := dk_42 (dk_at dksL_law_15 7 rfl rfl)
theorem dL_law_598 : decode cL_law 598 = .ok (.iload_n 3, 1) := dk_29 (dk_at dksL_law_15 8 rfl rfl)
theorem dL_law_599 : decode cL_law 599 = .ok (.iconst 2, 1) := dk_5 (dk_at dksL_law_15 9 rfl rfl)
theorem dL_law_600 : decode cL_law 600 = .ok (.iadd, 1) := dk_96 (dk_at dksL_law_15 10 rfl rfl)
theorem dL_law_601 : decode cL_law 601 = .ok (.iaload, 1) := dk_46 (dk_at dksL_law_15 11 rfl rfl)
theorem dL_law_602 : decode cL_law 602 = .ok (.invokevirtual 61, 3) := dk_182 0 61 (dk_at dksL_law_15 12 rfl rfl)
theorem dL_law_605 : decode cL_law 605 = .ok (.aload_n 2, 1) := dk_44 (dk_at dksL_law_15 15 rfl rfl)
theorem dL_law_606 : decode cL_law 606 = .ok (.aload_n 0, 1) := dk_42 (dk_at dksL_law_15 16 rfl rfl)
theorem dL_law_607 : decode cL_law 607 = .ok (.iload_n 3, 1) := dk_29 (dk_at dksL_law_15 17 rfl rfl)
theorem dL_law_608 : decode cL_law 608 = .ok (.iconst 1, 1) := dk_4 (dk_at dksL_law_15 18 rfl rfl)
theorem dL_law_609 : decode cL_law 609 = .ok (.iadd, 1) := dk_96 (dk_at dksL_law_15 19 rfl rfl)
theorem dL_law_610 : decode cL_law 610 = .ok (.iaload, 1) := dk_46 (dk_at dksL_law_15 20 rfl rfl)
theorem dL_law_611 : decode cL_law 611 = .ok (.aload_n 0, 1) := dk_42 (dk_at dksL_law_15 21 rfl rfl)
theorem dL_law_612 : decode cL_law 612 = .ok (.iload_n 3, 1) := dk_29 (dk_at dksL_law_15 22 rfl rfl)
theorem dL_law_613 : decode cL_law 613 = .ok (.iconst 2, 1) := dk_5 (dk_at dksL_law_15 23 rfl rfl)
theorem dL_law_614 : decode cL_law 614 = .ok (.iadd, 1) := dk_96 (dk_at dksL_law_16 0 rfl rfl)
theorem dL_law_615 : decode cL_law 615 = .ok (.iaload, 1) := dk_46 (dk_at dksL_law_16 1 rfl rfl)
theorem dL_law_616 : decode cL_law 616 = .ok (.invokevirtual 64, 3) := dk_182 0 64 (dk_at dksL_law_16 2 rfl rfl)
theorem dL_law_619 : decode cL_law 619 = .ok (.if_icmp .eq 1514, 3) := dk_159 5 234 (dk_at dksL_law_16 5 rfl rfl)
theorem dL_law_622 : decode cL_law 622 = .ok (.iconst 0, 1) := dk_3 (dk_at dksL_law_16 8 rfl rfl)
theorem dL_law_623 : decode cL_law 623 = .ok (.ireturn, 1) := dk_172 (dk_at dksL_law_16 9 rfl rfl)
theorem dL_law_624 : decode cL_law 624 = .ok (.aload_n 1, 1) := dk_43 (dk_at dksL_law_16 10 rfl rfl)
theorem dL_law_625 : decode cL_law 625 = .ok (.aload_n 0, 1) := dk_42 (dk_at dksL_law_16 11 rfl rfl)
theorem dL_law_626 : decode cL_law 626 = .ok (.iload_n 3, 1) := dk_29 (dk_at dksL_law_16 12 rfl rfl)
theorem dL_law_627 : decode cL_law 627 = .ok (.iconst 1, 1) := dk_4 (dk_at dksL_law_16 13 rfl rfl)
theorem dL_law_628 : decode cL_law 628 = .ok (.iadd, 1) := dk_96 (dk_at dksL_law_16 14 rfl rfl)
theorem dL_law_629 : decode cL_law 629 = .ok (.iaload, 1) := dk_46 (dk_at dksL_law_16 15 rfl rfl)
theorem dL_law_630 : decode cL_law 630 = .ok (.aload_n 0, 1) := dk_42 (dk_at dksL_law_16 16 rfl rfl)
theorem dL_law_631 : decode cL_law 631 = .ok (.iload_n 3, 1) := dk_29 (dk_at dksL_law_16 17 rfl rfl)
theorem dL_law_632 : decode cL_law 632 = .ok (.iconst 2, 1) := dk_5 (dk_at dksL_law_16 18 rfl rfl)
theorem dL_law_633 : decode cL_law 633 = .ok (.iadd, 1) := dk_96 (dk_at dksL_law_16 19 rfl rfl)
theorem dL_law_634 : decode cL_law 634 = .ok (.iaload, 1) := dk_46 (dk_at dksL_law_16 20 rfl rfl)
theorem dL_law_635 : decode cL_law 635 = .ok (.invokevirtual 65, 3) := dk_182 0 65 (dk_at dksL_law_16 21 rfl rfl)
theorem dL_law_638 : decode cL_law 638 = .ok (.aload_n 2, 1) := dk_44 (dk_at dksL_law_17 0 rfl rfl)
theorem dL_law_639 : decode cL_law 639 = .ok (.aload_n 0, 1) := dk_42 (dk_at dksL_law_17 1 rfl rfl)
theorem dL_law_640 : decode cL_law 640 = .ok (.iload_n 3, 1) := dk_29 (dk_at dksL_law_17 2 rfl rfl)
theorem dL_law_641 : decode cL_law 641 = .ok (.iconst 1, 1) := dk_4 (dk_at dksL_law_17 3 rfl rfl)
theorem dL_law_642 : decode cL_law 642 = .ok (.iadd, 1) := dk_96 (dk_at dksL_law_17 4 rfl rfl)
theorem dL_law_643 : decode cL_law 643 = .ok (.iaload, 1) := dk_46 (dk_at dksL_law_17 5 rfl rfl)
theorem dL_law_644 : decode cL_law 644 = .ok (.aload_n 0, 1) := dk_42 (dk_at dksL_law_17 6 rfl rfl)
theorem dL_law_645 : decode cL_law 645 = .ok (.iload_n 3, 1) := dk_29 (dk_at dksL_law_17 7 rfl rfl)
theorem dL_law_646 : decode cL_law 646 = .ok (.iconst 2, 1) := dk_5 (dk_at dksL_law_17 8 rfl rfl)
theorem dL_law_647 : decode cL_law 647 = .ok (.iadd, 1) := dk_96 (dk_at dksL_law_17 9 rfl rfl)
theorem dL_law_648 : decode cL_law 648 = .ok (.iaload, 1) := dk_46 (dk_at dksL_law_17 10 rfl rfl)
theorem dL_law_649 : decode cL_law 649 = .ok (.invokevirtual 68, 3) := dk_182 0 68 (dk_at dksL_law_17 11 rfl rfl)
theorem dL_law_652 : decode cL_law 652 = .ok (.if_icmp .eq 1481, 3) := dk_159 5 201 (dk_at dksL_law_17 14 rfl rfl)
theorem dL_law_655 : decode cL_law 655 = .ok (.iconst 0, 1) := dk_3 (dk_at dksL_law_17 17 rfl rfl)
theorem dL_law_656 : decode cL_law 656 = .ok (.ireturn, 1) := dk_172 (dk_at dksL_law_17 18 rfl rfl)
theorem dL_law_657 : decode cL_law 657 = .ok (.aload_n 1, 1) := dk_43 (dk_at dksL_law_17 19 rfl rfl)
theorem dL_law_658 : decode cL_law 658 = .ok (.aload_n 0, 1) := dk_42 (dk_at dksL_law_17 20 rfl rfl)
theorem dL_law_659 : decode cL_law 659 = .ok (.iload_n 3, 1) := dk_29 (dk_at dksL_law_17 21 rfl rfl)
theorem dL_law_660 : decode cL_law 660 = .ok (.iconst 1, 1) := dk_4 (dk_at dksL_law_17 22 rfl rfl)
theorem dL_law_661 : decode cL_law 661 = .ok (.iadd, 1) := dk_96 (dk_at dksL_law_17 23 rfl rfl)
theorem dL_law_662 : decode cL_law 662 = .ok (.iaload, 1) := dk_46 (dk_at dksL_law_18 0 rfl rfl)
theorem dL_law_663 : decode cL_law 663 = .ok (.aload_n 0, 1) := dk_42 (dk_at dksL_law_18 1 rfl rfl)
theorem dL_law_664 : decode cL_law 664 = .ok (.iload_n 3, 1) := dk_29 (dk_at dksL_law_18 2 rfl rfl)
theorem dL_law_665 : decode cL_law 665 = .ok (.iconst 2, 1) := dk_5 (dk_at dksL_law_18 3 rfl rfl)
theorem dL_law_666 : decode cL_law 666 = .ok (.iadd, 1) := dk_96 (dk_at dksL_law_18 4 rfl rfl)
theorem dL_law_667 : decode cL_law 667 = .ok (.iaload, 1) := dk_46 (dk_at dksL_law_18 5 rfl rfl)
theorem dL_law_668 : decode cL_law 668 = .ok (.aload_n 0, 1) := dk_42 (dk_at dksL_law_18 6 rfl rfl)
theorem dL_law_669 : decode cL_law 669 = .ok (.iload_n 3, 1) := dk_29 (dk_at dksL_law_18 7 rfl rfl)
theorem dL_law_670 : decode cL_law 670 = .ok (.iconst 3, 1) := dk_6 (dk_at dksL_law_18 8 rfl rfl)
theorem dL_law_671 : decode cL_law 671 = .ok (.iadd, 1) := dk_96 (dk_at dksL_law_18 9 rfl rfl)
theorem dL_law_672 : decode cL_law 672 = .ok (.iaload, 1) := dk_46 (dk_at dksL_law_18 10 rfl rfl)
theorem dL_law_673 : decode cL_law 673 = .ok (.invokevirtual 69, 3) := dk_182 0 69 (dk_at dksL_law_18 11 rfl rfl)
theorem dL_law_676 : decode cL_law 676 = .ok (.aload_n 2, 1) := dk_44 (dk_at dksL_law_18 14 rfl rfl)
theorem dL_law_677 : decode cL_law 677 = .ok (.aload_n 0, 1) := dk_42 (dk_at dksL_law_18 15 rfl rfl)
theorem dL_law_678 : decode cL_law 678 = .ok (.iload_n 3, 1) := dk_29 (dk_at dksL_law_18 16 rfl rfl)
theorem dL_law_679 : decode cL_law 679 = .ok (.iconst 1, 1) := dk_4 (dk_at dksL_law_18 17 rfl rfl)
theorem dL_law_680 : decode cL_law 680 = .ok (.iadd, 1) := dk_96 (dk_at dksL_law_18 18 rfl rfl)
theorem dL_law_681 : decode cL_law 681 = .ok (.iaload, 1) := dk_46 (dk_at dksL_law_18 19 rfl rfl)
theorem dL_law_682 : decode cL_law 682 = .ok (.aload_n 0, 1) := dk_42 (dk_at dksL_law_18 20 rfl rfl)
theorem dL_law_683 : decode cL_law 683 = .ok (.iload_n 3, 1) := dk_29 (dk_at dksL_law_18 21 rfl rfl)
theorem dL_law_684 : decode cL_law 684 = .ok (.iconst 2, 1) := dk_5 (dk_at dksL_law_18 22 rfl rfl)
theorem dL_law_685 : decode cL_law 685 = .ok (.iadd, 1) := dk_96 (dk_at dksL_law_18 23 rfl rfl)
theorem dL_law_686 : decode cL_law 686 = .ok (.iaload, 1) := dk_46 (dk_at dksL_law_19 0 rfl rfl)
theorem dL_law_687 : decode cL_law 687 = .ok (.aload_n 0, 1) := dk_42 (dk_at dksL_law_19 1 rfl rfl)
theorem dL_law_688 : decode cL_law 688 = .ok (.iload_n 3, 1) := dk_29 (dk_at dksL_law_19 2 rfl rfl)
theorem dL_law_689 : decode cL_law 689 = .ok (.iconst 3, 1) := dk_6 (dk_at dksL_law_19 3 rfl rfl)
theorem dL_law_690 : decode cL_law 690 = .ok (.iadd, 1) := dk_96 (dk_at dksL_law_19 4 rfl rfl)
theorem dL_law_691 : decode cL_law 691 = .ok (.iaload, 1) := dk_46 (dk_at dksL_law_19 5 rfl rfl)
theorem dL_law_692 : decode cL_law 692 = .ok (.invokevirtual 73, 3) := dk_182 0 73 (dk_at dksL_law_19 6 rfl rfl)
theorem dL_law_695 : decode cL_law 695 = .ok (.if_icmp .eq 1438, 3) := dk_159 5 158 (dk_at dksL_law_19 9 rfl rfl)
theorem dL_law_698 : decode cL_law 698 = .ok (.iconst 0, 1) := dk_3 (dk_at dksL_law_19 12 rfl rfl)
theorem dL_law_699 : decode cL_law 699 = .ok (.ireturn, 1) := dk_172 (dk_at dksL_law_19 13 rfl rfl)
theorem dL_law_700 : decode cL_law 700 = .ok (.aload_n 1, 1) := dk_43 (dk_at dksL_law_19 14 rfl rfl)
theorem dL_law_701 : decode cL_law 701 = .ok (.aload_n 0, 1) := dk_42 (dk_at dksL_law_19 15 rfl rfl)
theorem dL_law_702 : decode cL_law 702 = .ok (.iload_n 3, 1) := dk_29 (dk_at dksL_law_19 16 rfl rfl)
theorem dL_law_703 : decode cL_law 703 = .ok (.iconst 1, 1) := dk_4 (dk_at dksL_law_19 17 rfl rfl)
theorem dL_law_704 : decode cL_law 704 = .ok (.iadd, 1) := dk_96 (dk_at dksL_law_19 18 rfl rfl)
theorem dL_law_705 : decode cL_law 705 = .ok (.iaload, 1) := dk_46 (dk_at dksL_law_19 19 rfl rfl)
theorem dL_law_706 : decode cL_law 706 = .ok (.invokevirtual 74, 3) := dk_182 0 74 (dk_at dksL_law_19 20 rfl rfl)
theorem dL_law_709 : decode cL_law 709 = .ok (.aload_n 2, 1) := dk_44 (dk_at dksL_law_19 23 rfl rfl)
theorem dL_law_710 : decode cL_law 710 = .ok (.aload_n 0, 1) := dk_42 (dk_at dksL_law_20 0 rfl rfl)
theorem dL_law_711 : decode cL_law 711 = .ok (.iload_n 3, 1) := dk_29 (dk_at dksL_law_20 1 rfl rfl)
theorem dL_law_712 : decode cL_law 712 = .ok (.iconst 1, 1) := dk_4 (dk_at dksL_law_20 2 rfl rfl)
theorem dL_law_713 : decode cL_law 713 = .ok (.iadd, 1) := dk_96 (dk_at dksL_law_20 3 rfl rfl)
theorem dL_law_714 : decode cL_law 714 = .ok (.iaload, 1) := dk_46 (dk_at dksL_law_20 4 rfl rfl)
theorem dL_law_715 : decode cL_law 715 = .ok (.invokevirtual 77, 3) := dk_182 0 77 (dk_at dksL_law_20 5 rfl rfl)
theorem dL_law_718 : decode cL_law 718 = .ok (.if_icmp .eq 1415, 3) := dk_159 5 135 (dk_at dksL_law_20 8 rfl rfl)
theorem dL_law_721 : decode cL_law 721 = .ok (.iconst 0, 1) := dk_3 (dk_at dksL_law_20 11 rfl rfl)
theorem dL_law_722 : decode cL_law 722 = .ok (.ireturn, 1) := dk_172 (dk_at dksL_law_20 12 rfl rfl)
theorem dL_law_723 : decode cL_law 723 = .ok (.aload_n 1, 1) := dk_43 (dk_at dksL_law_20 13 rfl rfl)
theorem dL_law_724 : decode cL_law 724 = .ok (.aload_n 0, 1) := dk_42 (dk_at dksL_law_20 14 rfl rfl)
theorem dL_law_725 : decode cL_law 725 = .ok (.iload_n 3, 1) := dk_29 (dk_at dksL_law_20 15 rfl rfl)
theorem dL_law_726 : decode cL_law 726 = .ok (.iconst 1, 1) := dk_4 (dk_at dksL_law_20 16 rfl rfl)
theorem dL_law_727 : decode cL_law 727 = .ok (.iadd, 1) := dk_96 (dk_at dksL_law_20 17 rfl rfl)
theorem dL_law_728 : decode cL_law 728 = .ok (.iaload, 1) := dk_46 (dk_at dksL_law_20 18 rfl rfl)
theorem dL_law_729 : decode cL_law 729 = .ok (.aload_n 0, 1) := dk_42 (dk_at dksL_law_20 19 rfl rfl)
theorem dL_law_730 : decode cL_law 730 = .ok (.iload_n 3, 1) := dk_29 (dk_at dksL_law_20 20 rfl rfl)
theorem dL_law_731 : decode cL_law 731 = .ok (.iconst 2, 1) := dk_5 (dk_at dksL_law_20 21 rfl rfl)
theorem dL_law_732 : decode cL_law 732 = .ok (.iadd, 1) := dk_96 (dk_at dksL_law_20 22 rfl rfl)
theorem dL_law_733 : decode cL_law 733 = .ok (.iaload, 1) := dk_46 (dk_at dksL_law_20 23 rfl rfl)
theorem dL_law_734 : decode cL_law 734 = .ok (.aload_n 0, 1) := dk_42 (dk_at dksL_law_21 0 rfl rfl)
theorem dL_law_735 : decode cL_law 735 = .ok (.iload_n 3, 1) := dk_29 (dk_at dksL_law_21 1 rfl rfl)
theorem dL_law_736 : decode cL_law 736 = .ok (.iconst 3, 1) := dk_6 (dk_at dksL_law_21 2 rfl rfl)
theorem dL_law_737 : decode cL_law 737 = .ok (.iadd, 1) := dk_96 (dk_at dksL_law_21 3 rfl rfl)
theorem dL_law_738 : decode cL_law 738 = .ok (.iaload, 1) := dk_46 (dk_at dksL_law_21 4 rfl rfl)
theorem dL_law_739 : decode cL_law 739 = .ok (.invokevirtual 78, 3) := dk_182 0 78 (dk_at dksL_law_21 5 rfl rfl)
theorem dL_law_742 : decode cL_law 742 = .ok (.aload_n 2, 1) := dk_44 (dk_at dksL_law_21 8 rfl rfl)
theorem dL_law_743 : decode cL_law 743 = .ok (.aload_n 0, 1) := dk_42 (dk_at dksL_law_21 9 rfl rfl)
theorem dL_law_744 : decode cL_law 744 = .ok (.iload_n 3, 1) := dk_29 (dk_at dksL_law_21 10 rfl rfl)
theorem dL_law_745 : decode cL_law 745 = .ok (.iconst 1, 1) := dk_4 (dk_at dksL_law_21 11 rfl rfl)
theorem dL_law_746 : decode cL_law 746 = .ok (.iadd, 1) := dk_96 (dk_at dksL_law_21 12 rfl rfl)
theorem dL_law_747 : decode cL_law 747 = .ok (.iaload, 1) := dk_46 (dk_at dksL_law_21 13 rfl rfl)
theorem dL_law_748 : decode cL_law 748 = .ok (.aload_n 0, 1) := dk_42 (dk_at dksL_law_21 14 rfl rfl)
theorem dL_law_749 : decode cL_law 749 = .ok (.iload_n 3, 1) := dk_29 (dk_at dksL_law_21 15 rfl rfl)
theorem dL_law_750 : decode cL_law 750 = .ok (.iconst 2, 1) := dk_5 (dk_at dksL_law_21 16 rfl rfl)
theorem dL_law_751 : decode cL_law 751 = .ok (.iadd, 1) := dk_96 (dk_at dksL_law_21 17 rfl rfl)
theorem dL_law_752 : decode cL_law 752 = .ok (.iaload, 1) := dk_46 (dk_at dksL_law_21 18 rfl rfl)
theorem dL_law_753 : decode cL_law 753 = .ok (.aload_n 0, 1) := dk_42 (dk_at dksL_law_21 19 rfl rfl)
theorem dL_law_754 : decode cL_law 754 = .ok (.iload_n 3, 1) := dk_29 (dk_at dksL_law_21 20 rfl rfl)
theorem dL_law_755 : decode cL_law 755 = .ok (.iconst 3, 1) := dk_6 (dk_at dksL_law_21 21 rfl rfl)
theorem dL_law_756 : decode cL_law 756 = .ok (.iadd, 1) := dk_96 (dk_at dksL_law_21 22 rfl rfl)
theorem dL_law_757 : decode cL_law 757 = .ok (.iaload, 1) := dk_46 (dk_at dksL_law_21 23 rfl rfl)
theorem dL_law_758 : decode cL_law 758 = .ok (.invokevirtual 81, 3) := dk_182 0 81 (dk_at dksL_law_22 0 rfl rfl)
theorem dL_law_761 : decode cL_law 761 = .ok (.if_icmp .eq 1372, 3) := dk_159 5 92 (dk_at dksL_law_22 3 rfl rfl)
theorem dL_law_764 : decode cL_law 764 = .ok (.iconst 0, 1) := dk_3 (dk_at dksL_law_22 6 rfl rfl)
theorem dL_law_765 : decode cL_law 765 = .ok (.ireturn, 1) := dk_172 (dk_at dksL_law_22 7 rfl rfl)
theorem dL_law_766 : decode cL_law 766 = .ok (.aload_n 1, 1) := dk_43 (dk_at dksL_law_22 8 rfl rfl)
theorem dL_law_767 : decode cL_law 767 = .ok (.aload_n 0, 1) := dk_42 (dk_at dksL_law_22 9 rfl rfl)
theorem dL_law_768 : decode cL_law 768 = .ok (.iload_n 3, 1) := dk_29 (dk_at dksL_law_22 10 rfl rfl)
theorem dL_law_769 : decode cL_law 769 = .ok (.iconst 1, 1) := dk_4 (dk_at dksL_law_22 11 rfl rfl)
theorem dL_law_770 : decode cL_law 770 = .ok (.iadd, 1) := dk_96 (dk_at dksL_law_22 12 rfl rfl)
theorem dL_law_771 : decode cL_law 771 = .ok (.iaload, 1) := dk_46 (dk_at dksL_law_22 13 rfl rfl)
theorem dL_law_772 : decode cL_law 772 = .ok (.aload_n 0, 1) := dk_42 (dk_at dksL_law_22 14 rfl rfl)
theorem dL_law_773 : decode cL_law 773 = .ok (.iload_n 3, 1) := dk_29 (dk_at dksL_law_22 15 rfl rfl)
theorem dL_law_774 : decode cL_law 774 = .ok (.iconst 2, 1) := dk_5 (dk_at dksL_law_22 16 rfl rfl)
theorem dL_law_775 : decode cL_law 775 = .ok (.iadd, 1) := dk_96 (dk_at dksL_law_22 17 rfl rfl)
theorem dL_law_776 : decode cL_law 776 = .ok (.iaload, 1) := dk_46 (dk_at dksL_law_22 18 rfl rfl)
theorem dL_law_777 : decode cL_law 777 = .ok (.aload_n 0, 1) := dk_42 (dk_at dksL_law_22 19 rfl rfl)
theorem dL_law_778 : decode cL_law 778 = .ok (.iload_n 3, 1) := dk_29 (dk_at dksL_law_22 20 rfl rfl)
theorem dL_law_779 : decode cL_law 779 = .ok (.iconst 3, 1) := dk_6 (dk_at dksL_law_22 21 rfl rfl)
theorem dL_law_780 : decode cL_law 780 = .ok (.iadd, 1) := dk_96 (dk_at dksL_law_22 22 rfl rfl)
theorem dL_law_781 : decode cL_law 781 = .ok (.iaload, 1) := dk_46 (dk_at dksL_law_22 23 rfl rfl)
theorem dL_law_782 : decode cL_law 782 = .ok (.invokevirtual 82, 3) := dk_182 0 82 (dk_at dksL_law_23 0 rfl rfl)
theorem dL_law_785 : decode cL_law 785 = .ok (.aload_n 2, 1) := dk_44 (dk_at dksL_law_23 3 rfl rfl)
theorem dL_law_786 : decode cL_law 786 = .ok (.aload_n 0, 1) := dk_42 (dk_at dksL_law_23 4 rfl rfl)
theorem dL_law_787 : decode cL_law 787 = .ok (.iload_n 3, 1) := dk_29 (dk_at dksL_law_23 5 rfl rfl)
theorem dL_law_788 : decode cL_law 788 = .ok (.iconst 1, 1) := dk_4 (dk_at dksL_law_23 6 rfl rfl)
theorem dL_law_789 : decode cL_law 789 = .ok (.iadd, 1) := dk_96 (dk_at dksL_law_23 7 rfl rfl)
theorem dL_law_790 : decode cL_law 790 = .ok (.iaload, 1) := dk_46 (dk_at dksL_law_23 8 rfl rfl)
theorem dL_law_791 : decode cL_law 791 = .ok (.aload_n 0, 1) := dk_42 (dk_at dksL_law_23 9 rfl rfl)
theorem dL_law_792 : decode cL_law 792 = .ok (.iload_n 3, 1) := dk_29 (dk_at dksL_law_23 10 rfl rfl)
theorem dL_law_793 : decode cL_law 793 = .ok (.iconst 2, 1) := dk_5 (dk_at dksL_law_23 11 rfl rfl)
theorem dL_law_794 : decode cL_law 794 = .ok (.iadd, 1) := dk_96 (dk_at dksL_law_23 12 rfl rfl)
theorem dL_law_795 : decode cL_law 795 = .ok (.iaload, 1) := dk_46 (dk_at dksL_law_23 13 rfl rfl)
theorem dL_law_796 : decode cL_law 796 = .ok (.aload_n 0, 1) := dk_42 (dk_at dksL_law_23 14 rfl rfl)
theorem dL_law_797 : decode cL_law 797 = .ok (.iload_n 3, 1) := dk_29 (dk_at dksL_law_23 15 rfl rfl)
theorem dL_law_798 : decode cL_law 798 = .ok (.iconst 3, 1) := dk_6 (dk_at dksL_law_23 16 rfl rfl)
theorem dL_law_799 : decode cL_law 799 = .ok (.iadd, 1) := dk_96 (dk_at dksL_law_23 17 rfl rfl)
theorem dL_law_800 : decode cL_law 800 = .ok (.iaload, 1) := dk_46 (dk_at dksL_law_23 18 rfl rfl)
theorem dL_law_801 : decode cL_law 801 = .ok (.invokevirtual 85, 3) := dk_182 0 85 (dk_at dksL_law_23 19 rfl rfl)
theorem dL_law_804 : decode cL_law 804 = .ok (.if_icmp .eq 1329, 3) := dk_159 5 49 (dk_at dksL_law_24 0 rfl rfl)
theorem dL_law_807 : decode cL_law 807 = .ok (.iconst 0, 1) := dk_3 (dk_at dksL_law_24 3 rfl rfl)
theorem dL_law_808 : decode cL_law 808 = .ok (.ireturn, 1) := dk_172 (dk_at dksL_law_24 4 rfl rfl)
theorem dL_law_809 : decode cL_law 809 = .ok (.aload_n 1, 1) := dk_43 (dk_at dksL_law_24 5 rfl rfl)
theorem dL_law_810 : decode cL_law 810 = .ok (.aload_n 0, 1) := dk_42 (dk_at dksL_law_24 6 rfl rfl)
theorem dL_law_811 : decode cL_law 811 = .ok (.iload_n 3, 1) := dk_29 (dk_at dksL_law_24 7 rfl rfl)
theorem dL_law_812 : decode cL_law 812 = .ok (.iconst 1, 1) := dk_4 (dk_at dksL_law_24 8 rfl rfl)
theorem dL_law_813 : decode cL_law 813 = .ok (.iadd, 1) := dk_96 (dk_at dksL_law_24 9 rfl rfl)
theorem dL_law_814 : decode cL_law 814 = .ok (.iaload, 1) := dk_46 (dk_at dksL_law_24 10 rfl rfl)
theorem dL_law_815 : decode cL_law 815 = .ok (.aload_n 0, 1) := dk_42 (dk_at dksL_law_24 11 rfl rfl)
theorem dL_law_816 : decode cL_law 816 = .ok (.iload_n 3, 1) := dk_29 (dk_at dksL_law_24 12 rfl rfl)
theorem dL_law_817 : decode cL_law 817 = .ok (.iconst 2, 1) := dk_5 (dk_at dksL_law_24 13 rfl rfl)
theorem dL_law_818 : decode cL_law 818 = .ok (.iadd, 1) := dk_96 (dk_at dksL_law_24 14 rfl rfl)
theorem dL_law_819 : decode cL_law 819 = .ok (.iaload, 1) := dk_46 (dk_at dksL_law_24 15 rfl rfl)
theorem dL_law_820 : decode cL_law 820 = .ok (.aload_n 0, 1) := dk_42 (dk_at dksL_law_24 16 rfl rfl)
theorem dL_law_821 : decode cL_law 821 = .ok (.iload_n 3, 1) := dk_29 (dk_at dksL_law_24 17 rfl rfl)
theorem dL_law_822 : decode cL_law 822 = .ok (.iconst 3, 1) := dk_6 (dk_at dksL_law_24 18 rfl rfl)
theorem dL_law_823 : decode cL_law 823 = .ok (.iadd, 1) := dk_96 (dk_at dksL_law_24 19 rfl rfl)
theorem dL_law_824 : decode cL_law 824 = .ok (.iaload, 1) := dk_46 (dk_at dksL_law_24 20 rfl rfl)
theorem dL_law_825 : decode cL_law 825 = .ok (.aload_n 0, 1) := dk_42 (dk_at dksL_law_24 21 rfl rfl)
theorem dL_law_826 : decode cL_law 826 = .ok (.iload_n 3, 1) := dk_29 (dk_at dksL_law_24 22 rfl rfl)
theorem dL_law_827 : decode cL_law 827 = .ok (.iconst 4, 1) := dk_7 (dk_at dksL_law_24 23 rfl rfl)
theorem dL_law_828 : decode cL_law 828 = .ok (.iadd, 1) := dk_96 (dk_at dksL_law_25 0 rfl rfl)
theorem dL_law_829 : decode cL_law 829 = .ok (.iaload, 1) := dk_46 (dk_at dksL_law_25 1 rfl rfl)
theorem dL_law_830 : decode cL_law 830 = .ok (.invokevirtual 86, 3) := dk_182 0 86 (dk_at dksL_law_25 2 rfl rfl)
theorem dL_law_833 : decode cL_law 833 = .ok (.aload_n 2, 1) := dk_44 (dk_at dksL_law_25 5 rfl rfl)
theorem dL_law_834 : decode cL_law 834 = .ok (.aload_n 0, 1) := dk_42 (dk_at dksL_law_25 6 rfl rfl)
theorem dL_law_835 : decode cL_law 835 = .ok (.iload_n 3, 1) := dk_29 (dk_at dksL_law_25 7 rfl rfl)
theorem dL_law_836 : decode cL_law 836 = .ok (.iconst 1, 1) := dk_4 (dk_at dksL_law_25 8 rfl rfl)
theorem dL_law_837 : decode cL_law 837 = .ok (.iadd, 1) := dk_96 (dk_at dksL_law_25 9 rfl rfl)
theorem dL_law_838 : decode cL_law 838 = .ok (.iaload, 1) := dk_46 (dk_at dksL_law_25 10 rfl rfl)
theorem dL_law_839 : decode cL_law 839 = .ok (.aload_n 0, 1) := dk_42 (dk_at dksL_law_25 11 rfl rfl)
theorem dL_law_840 : decode cL_law 840 = .ok (.iload_n 3, 1) := dk_29 (dk_at dksL_law_25 12 rfl rfl)
theorem dL_law_841 : decode cL_law 841 = .ok (.iconst 2, 1) := dk_5 (dk_at dksL_law_25 13 rfl rfl)
theorem dL_law_842 : decode cL_law 842 = .ok (.iadd, 1) := dk_96 (dk_at dksL_law_25 14 rfl rfl)
theorem dL_law_843 : decode cL_law 843 = .ok (.iaload, 1) := dk_46 (dk_at dksL_law_25 15 rfl rfl)
theorem dL_law_844 : decode cL_law 844 = .ok (.aload_n 0, 1) := dk_42 (dk_at dksL_law_25 16 rfl rfl)
theorem dL_law_845 : decode cL_law 845 = .ok (.iload_n 3, 1) := dk_29 (dk_at dksL_law_25 17 rfl rfl)
theorem dL_law_846 : decode cL_law 846 = .ok (.iconst 3, 1) := dk_6 (dk_at dksL_law_25 18 rfl rfl)
theorem dL_law_847 : decode cL_law 847 = .ok (.iadd, 1) := dk_96 (dk_at dksL_law_25 19 rfl rfl)
theorem dL_law_848 : decode cL_law 848 = .ok (.iaload, 1) := dk_46 (dk_at dksL_law_25 20 rfl rfl)
theorem dL_law_849 : decode cL_law 849 = .ok (.aload_n 0, 1) := dk_42 (dk_at dksL_law_25 21 rfl rfl)
theorem dL_law_850 : decode cL_law 850 = .ok (.iload_n 3, 1) := dk_29 (dk_at dksL_law_25 22 rfl rfl)
theorem dL_law_851 : decode cL_law 851 = .ok (.iconst 4, 1) := dk_7 (dk_at dksL_law_25 23 rfl rfl)
theorem dL_law_852 : decode cL_law 852 = .ok (.iadd, 1) := dk_96 (dk_at dksL_law_26 0 rfl rfl)
theorem dL_law_853 : decode cL_law 853 = .ok (.iaload, 1) := dk_46 (dk_at dksL_law_26 1 rfl rfl)
theorem dL_law_854 : decode cL_law 854 = .ok (.invokevirtual 90, 3) := dk_182 0 90 (dk_at dksL_law_26 2 rfl rfl)
theorem dL_law_857 : decode cL_law 857 = .ok (.if_icmp .eq 1276, 3) := dk_159 4 252 (dk_at dksL_law_26 5 rfl rfl)
theorem dL_law_860 : decode cL_law 860 = .ok (.iconst 0, 1) := dk_3 (dk_at dksL_law_26 8 rfl rfl)
theorem dL_law_861 : decode cL_law 861 = .ok (.ireturn, 1) := dk_172 (dk_at dksL_law_26 9 rfl rfl)
theorem dL_law_862 : decode cL_law 862 = .ok (.aload_n 1, 1) := dk_43 (dk_at dksL_law_26 10 rfl rfl)
theorem dL_law_863 : decode cL_law 863 = .ok (.aload_n 0, 1) := dk_42 (dk_at dksL_law_26 11 rfl rfl)
theorem dL_law_864 : decode cL_law 864 = .ok (.iload_n 3, 1) := dk_29 (dk_at dksL_law_26 12 rfl rfl)
theorem dL_law_865 : decode cL_law 865 = .ok (.iconst 1, 1) := dk_4 (dk_at dksL_law_26 13 rfl rfl)
theorem dL_law_866 : decode cL_law 866 = .ok (.iadd, 1) := dk_96 (dk_at dksL_law_26 14 rfl rfl)
theorem dL_law_867 : decode cL_law 867 = .ok (.iaload, 1) := dk_46 (dk_at dksL_law_26 15 rfl rfl)
theorem dL_law_868 : decode cL_law 868 = .ok (.aload_n 0, 1) := dk_42 (dk_at dksL_law_26 16 rfl rfl)
theorem dL_law_869 : decode cL_law 869 = .ok (.iload_n 3, 1) := dk_29 (dk_at dksL_law_26 17 rfl rfl)
theorem dL_law_870 : decode cL_law 870 = .ok (.iconst 2, 1) := dk_5 (dk_at dksL_law_26 18 rfl rfl)
theorem dL_law_871 : decode cL_law 871 = .ok (.iadd, 1) := dk_96 (dk_at dksL_law_26 19 rfl rfl)
theorem dL_law_872 : decode cL_law 872 = .ok (.iaload, 1) := dk_46 (dk_at dksL_law_26 20 rfl rfl)
theorem dL_law_873 : decode cL_law 873 = .ok (.invokevirtual 91, 3) := dk_182 0 91 (dk_at dksL_law_26 21 rfl rfl)
theorem dL_law_876 : decode cL_law 876 = .ok (.aload_n 2, 1) := dk_44 (dk_at dksL_law_27 0 rfl rfl)
theorem dL_law_877 : decode cL_law 877 = .ok (.aload_n 0, 1) := dk_42 (dk_at dksL_law_27 1 rfl rfl)
theorem dL_law_878 : decode cL_law 878 = .ok (.iload_n 3, 1) := dk_29 (dk_at dksL_law_27 2 rfl rfl)
theorem dL_law_879 : decode cL_law 879 = .ok (.iconst 1, 1) := dk_4 (dk_at dksL_law_27 3 rfl rfl)
theorem dL_law_880 : decode cL_law 880 = .ok (.iadd, 1) := dk_96 (dk_at dksL_law_27 4 rfl rfl)
theorem dL_law_881 : decode cL_law 881 = .ok (.iaload, 1) := dk_46 (dk_at dksL_law_27 5 rfl rfl)
theorem dL_law_882 : decode cL_law 882 = .ok (.aload_n 0, 1) := dk_42 (dk_at dksL_law_27 6 rfl rfl)
theorem dL_law_883 : decode cL_law 883 = .ok (.iload_n 3, 1) := dk_29 (dk_at dksL_law_27 7 rfl rfl)
theorem dL_law_884 : decode cL_law 884 = .ok (.iconst 2, 1) := dk_5 (dk_at dksL_law_27 8 rfl rfl)
theorem dL_law_885 : decode cL_law 885 = .ok (.iadd, 1) := dk_96 (dk_at dksL_law_27 9 rfl rfl)
theorem dL_law_886 : decode cL_law 886 = .ok (.iaload, 1) := dk_46 (dk_at dksL_law_27 10 rfl rfl)
theorem dL_law_887 : decode cL_law 887 = .ok (.invokevirtual 94, 3) := dk_182 0 94 (dk_at dksL_law_27 11 rfl rfl)
theorem dL_law_890 : decode cL_law 890 = .ok (.if_icmp .eq 1243, 3) := dk_159 4 219 (dk_at dksL_law_27 14 rfl rfl)
theorem dL_law_893 : decode cL_law 893 = .ok (.iconst 0, 1) := dk_3 (dk_at dksL_law_27 17 rfl rfl)
theorem dL_law_894 : decode cL_law 894 = .ok (.ireturn, 1) := dk_172 (dk_at dksL_law_27 18 rfl rfl)
theorem dL_law_895 : decode cL_law 895 = .ok (.aload_n 1, 1) := dk_43 (dk_at dksL_law_27 19 rfl rfl)
theorem dL_law_896 : decode cL_law 896 = .ok (.aload_n 0, 1) := dk_42 (dk_at dksL_law_27 20 rfl rfl)
theorem dL_law_897 : decode cL_law 897 = .ok (.iload_n 3, 1) := dk_29 (dk_at dksL_law_27 21 rfl rfl)
theorem dL_law_898 : decode cL_law 898 = .ok (.iconst 1, 1) := dk_4 (dk_at dksL_law_27 22 rfl rfl)
theorem dL_law_899 : decode cL_law 899 = .ok (.iadd, 1) := dk_96 (dk_at dksL_law_27 23 rfl rfl)
theorem dL_law_900 : decode cL_law 900 = .ok (.iaload, 1) := dk_46 (dk_at dksL_law_28 0 rfl rfl)
theorem dL_law_901 : decode cL_law 901 = .ok (.aload_n 0, 1) := dk_42 (dk_at dksL_law_28 1 rfl rfl)
theorem dL_law_902 : decode cL_law 902 = .ok (.iload_n 3, 1) := dk_29 (dk_at dksL_law_28 2 rfl rfl)
theorem dL_law_903 : decode cL_law 903 = .ok (.iconst 2, 1) := dk_5 (dk_at dksL_law_28 3 rfl rfl)
theorem dL_law_904 : decode cL_law 904 = .ok (.iadd, 1) := dk_96 (dk_at dksL_law_28 4 rfl rfl)
theorem dL_law_905 : decode cL_law 905 = .ok (.iaload, 1) := dk_46 (dk_at dksL_law_28 5 rfl rfl)
theorem dL_law_906 : decode cL_law 906 = .ok (.invokevirtual 95, 3) := dk_182 0 95 (dk_at dksL_law_28 6 rfl rfl)
theorem dL_law_909 : decode cL_law 909 = .ok (.aload_n 2, 1) := dk_44 (dk_at dksL_law_28 9 rfl rfl)
theorem dL_law_910 : decode cL_law 910 = .ok (.aload_n 0, 1) := dk_42 (dk_at dksL_law_28 10 rfl rfl)
theorem dL_law_911 : decode cL_law 911 = .ok (.iload_n 3, 1) := dk_29 (dk_at dksL_law_28 11 rfl rfl)
theorem dL_law_912 : decode cL_law 912 = .ok (.iconst 1, 1) := dk_4 (dk_at dksL_law_28 12 rfl rfl)
theorem dL_law_913 : decode cL_law 913 = .ok (.iadd, 1) := dk_96 (dk_at dksL_law_28 13 rfl rfl)
theorem dL_law_914 : decode cL_law 914 = .ok (.iaload, 1) := dk_46 (dk_at dksL_law_28 14 rfl rfl)
theorem dL_law_915 : decode cL_law 915 = .ok (.aload_n 0, 1) := dk_42 (dk_at dksL_law_28 15 rfl rfl)
theorem dL_law_916 : decode cL_law 916 = .ok (.iload_n 3, 1) := dk_29 (dk_at dksL_law_28 16 rfl rfl)
theorem dL_law_917 : decode cL_law 917 = .ok (.iconst 2, 1) := dk_5 (dk_at dksL_law_28 17 rfl rfl)
theorem dL_law_918 : decode cL_law 918 = .ok (.iadd, 1) := dk_96 (dk_at dksL_law_28 18 rfl rfl)
theorem dL_law_919 : decode cL_law 919 = .ok (.iaload, 1) := dk_46 (dk_at dksL_law_28 19 rfl rfl)
theorem dL_law_920 : decode cL_law 920 = .ok (.invokevirtual 98, 3) := dk_182 0 98 (dk_at dksL_law_28 20 rfl rfl)
theorem dL_law_923 : decode cL_law 923 = .ok (.if_icmp .eq 1210, 3) := dk_159 4 186 (dk_at dksL_law_29 0 rfl rfl)
theorem dL_law_926 : decode cL_law 926 = .ok (.iconst 0, 1) := dk_3 (dk_at dksL_law_29 3 rfl rfl)
theorem dL_law_927 : decode cL_law 927 = .ok (.ireturn, 1) := dk_172 (dk_at dksL_law_29 4 rfl rfl)
theorem dL_law_928 : decode cL_law 928 = .ok (.aload_n 1, 1) := dk_43 (dk_at dksL_law_29 5 rfl rfl)
theorem dL_law_929 : decode cL_law 929 = .ok (.invokevirtual 99, 3) := dk_182 0 99 (dk_at dksL_law_29 6 rfl rfl)
theorem dL_law_932 : decode cL_law 932 = .ok (.aload_n 2, 1) := dk_44 (dk_at dksL_law_29 9 rfl rfl)
theorem dL_law_933 : decode cL_law 933 = .ok (.invokevirtual 102, 3) := dk_182 0 102 (dk_at dksL_law_29 10 rfl rfl)
theorem dL_law_936 : decode cL_law 936 = .ok (.if_icmp .eq 1197, 3) := dk_159 4 173 (dk_at dksL_law_29 13 rfl rfl)
theorem dL_law_939 : decode cL_law 939 = .ok (.iconst 0, 1) := dk_3 (dk_at dksL_law_29 16 rfl rfl)
theorem dL_law_940 : decode cL_law 940 = .ok (.ireturn, 1) := dk_172 (dk_at dksL_law_29 17 rfl rfl)
theorem dL_law_941 : decode cL_law 941 = .ok (.aload_n 1, 1) := dk_43 (dk_at dksL_law_29 18 rfl rfl)
theorem dL_law_942 : decode cL_law 942 = .ok (.invokevirtual 103, 3) := dk_182 0 103 (dk_at dksL_law_29 19 rfl rfl)
theorem dL_law_945 : decode cL_law 945 = .ok (.aload_n 2, 1) := dk_44 (dk_at dksL_law_29 22 rfl rfl)
theorem dL_law_946 : decode cL_law 946 = .ok (.invokevirtual 106, 3) := dk_182 0 106 (dk_at dksL_law_30 0 rfl rfl)
theorem dL_law_949 : decode cL_law 949 = .ok (.if_icmp .eq 1184, 3) := dk_159 4 160 (dk_at dksL_law_30 3 rfl rfl)
theorem dL_law_952 : decode cL_law 952 = .ok (.iconst 0, 1) := dk_3 (dk_at dksL_law_30 6 rfl rfl)
theorem dL_law_953 : decode cL_law 953 = .ok (.ireturn, 1) := dk_172 (dk_at dksL_law_30 7 rfl rfl)
theorem dL_law_954 : decode cL_law 954 = .ok (.aload_n 1, 1) := dk_43 (dk_at dksL_law_30 8 rfl rfl)
theorem dL_law_955 : decode cL_law 955 = .ok (.invokevirtual 107, 3) := dk_182 0 107 (dk_at dksL_law_30 9 rfl rfl)
theorem dL_law_958 : decode cL_law 958 = .ok (.aload_n 2, 1) := dk_44 (dk_at dksL_law_30 12 rfl rfl)
theorem dL_law_959 : decode cL_law 959 = .ok (.invokevirtual 110, 3) := dk_182 0 110 (dk_at dksL_law_30 13 rfl rfl)
theorem dL_law_962 : decode cL_law 962 = .ok (.if_icmp .eq 1171, 3) := dk_159 4 147 (dk_at dksL_law_30 16 rfl rfl)
theorem dL_law_965 : decode cL_law 965 = .ok (.iconst 0, 1) := dk_3 (dk_at dksL_law_30 19 rfl rfl)
theorem dL_law_966 : decode cL_law 966 = .ok (.ireturn, 1) := dk_172 (dk_at dksL_law_30 20 rfl rfl)
theorem dL_law_967 : decode cL_law 967 = .ok (.aload_n 1, 1) := dk_43 (dk_at dksL_law_30 21 rfl rfl)
theorem dL_law_968 : decode cL_law 968 = .ok (.aload_n 0, 1) := dk_42 (dk_at dksL_law_30 22 rfl rfl)
theorem dL_law_969 : decode cL_law 969 = .ok (.iload_n 3, 1) := dk_29 (dk_at dksL_law_30 23 rfl rfl)
theorem dL_law_970 : decode cL_law 970 = .ok (.iconst 1, 1) := dk_4 (dk_at dksL_law_31 0 rfl rfl)
theorem dL_law_971 : decode cL_law 971 = .ok (.iadd, 1) := dk_96 (dk_at dksL_law_31 1 rfl rfl)
theorem dL_law_972 : decode cL_law 972 = .ok (.iaload, 1) := dk_46 (dk_at dksL_law_31 2 rfl rfl)
theorem dL_law_973 : decode cL_law 973 = .ok (.invokevirtual 111, 3) := dk_182 0 111 (dk_at dksL_law_31 3 rfl rfl)
theorem dL_law_976 : decode cL_law 976 = .ok (.aload_n 2, 1) := dk_44 (dk_at dksL_law_31 6 rfl rfl)
theorem dL_law_977 : decode cL_law 977 = .ok (.aload_n 0, 1) := dk_42 (dk_at dksL_law_31 7 rfl rfl)
theorem dL_law_978 : decode cL_law 978 = .ok (.iload_n 3, 1) := dk_29 (dk_at dksL_law_31 8 rfl rfl)
theorem dL_law_979 : decode cL_law 979 = .ok (.iconst 1, 1) := dk_4 (dk_at dksL_law_31 9 rfl rfl)
theorem dL_law_980 : decode cL_law 980 = .ok (.iadd, 1) := dk_96 (dk_at dksL_law_31 10 rfl rfl)
theorem dL_law_981 : decode cL_law 981 = .ok (.iaload, 1) := dk_46 (dk_at dksL_law_31 11 rfl rfl)
theorem dL_law_982 : decode cL_law 982 = .ok (.invokevirtual 114, 3) := dk_182 0 114 (dk_at dksL_law_31 12 rfl rfl)
theorem dL_law_985 : decode cL_law 985 = .ok (.if_icmp .eq 1148, 3) := dk_159 4 124 (dk_at dksL_law_31 15 rfl rfl)
theorem dL_law_988 : decode cL_law 988 = .ok (.iconst 0, 1) := dk_3 (dk_at dksL_law_31 18 rfl rfl)
theorem dL_law_989 : decode cL_law 989 = .ok (.ireturn, 1) := dk_172 (dk_at dksL_law_31 19 rfl rfl)
theorem dL_law_990 : decode cL_law 990 = .ok (.aload_n 1, 1) := dk_43 (dk_at dksL_law_31 20 rfl rfl)
theorem dL_law_991 : decode cL_law 991 = .ok (.invokevirtual 115, 3) := dk_182 0 115 (dk_at dksL_law_31 21 rfl rfl)
theorem dL_law_994 : decode cL_law 994 = .ok (.aload_n 2, 1) := dk_44 (dk_at dksL_law_32 0 rfl rfl)
theorem dL_law_995 : decode cL_law 995 = .ok (.invokevirtual 118, 3) := dk_182 0 118 (dk_at dksL_law_32 1 rfl rfl)
theorem dL_law_998 : decode cL_law 998 = .ok (.if_icmp .eq 1135, 3) := dk_159 4 111 (dk_at dksL_law_32 4 rfl rfl)
theorem dL_law_1001 : decode cL_law 1001 = .ok (.iconst 0, 1) := dk_3 (dk_at dksL_law_32 7 rfl rfl)
theorem dL_law_1002 : decode cL_law 1002 = .ok (.ireturn, 1) := dk_172 (dk_at dksL_law_32 8 rfl rfl)
theorem dL_law_1003 : decode cL_law 1003 = .ok (.aload_n 1, 1) := dk_43 (dk_at dksL_law_32 9 rfl rfl)
theorem dL_law_1004 : decode cL_law 1004 = .ok (.aload_n 0, 1) := dk_42 (dk_at dksL_law_32 10 rfl rfl)
theorem dL_law_1005 : decode cL_law 1005 = .ok (.iload_n 3, 1) := dk_29 (dk_at dksL_law_32 11 rfl rfl)
theorem dL_law_1006 : decode cL_law 1006 = .ok (.iconst 1, 1) := dk_4 (dk_at dksL_law_32 12 rfl rfl)
theorem dL_law_1007 : decode cL_law 1007 = .ok (.iadd, 1) := dk_96 (dk_at dksL_law_32 13 rfl rfl)
theorem dL_law_1008 : decode cL_law 1008 = .ok (.iaload, 1) := dk_46 (dk_at dksL_law_32 14 rfl rfl)
theorem dL_law_1009 : decode cL_law 1009 = .ok (.invokevirtual 119, 3) := dk_182 0 119 (dk_at dksL_law_32 15 rfl rfl)
theorem dL_law_1012 : decode cL_law 1012 = .ok (.aload_n 2, 1) := dk_44 (dk_at dksL_law_32 18 rfl rfl)
theorem dL_law_1013 : decode cL_law 1013 = .ok (.aload_n 0, 1) := dk_42 (dk_at dksL_law_32 19 rfl rfl)
theorem dL_law_1014 : decode cL_law 1014 = .ok (.iload_n 3, 1) := dk_29 (dk_at dksL_law_32 20 rfl rfl)
theorem dL_law_1015 : decode cL_law 1015 = .ok (.iconst 1, 1) := dk_4 (dk_at dksL_law_32 21 rfl rfl)
theorem dL_law_1016 : decode cL_law 1016 = .ok (.iadd, 1) := dk_96 (dk_at dksL_law_32 22 rfl rfl)
theorem dL_law_1017 : decode cL_law 1017 = .ok (.iaload, 1) := dk_46 (dk_at dksL_law_32 23 rfl rfl)
theorem dL_law_1018 : decode cL_law 1018 = .ok (.invokevirtual 122, 3) := dk_182 0 122 (dk_at dksL_law_33 0 rfl rfl)
theorem dL_law_1021 : decode cL_law 1021 = .ok (.if_icmp .eq 1112, 3) := dk_159 4 88 (dk_at dksL_law_33 3 rfl rfl)
theorem dL_law_1024 : decode cL_law 1024 = .ok (.iconst 0, 1) := dk_3 (dk_at dksL_law_33 6 rfl rfl)
theorem dL_law_1025 : decode cL_law 1025 = .ok (.ireturn, 1) := dk_172 (dk_at dksL_law_33 7 rfl rfl)
theorem dL_law_1026 : decode cL_law 1026 = .ok (.aload_n 1, 1) := dk_43 (dk_at dksL_law_33 8 rfl rfl)
theorem dL_law_1027 : decode cL_law 1027 = .ok (.invokevirtual 123, 3) := dk_182 0 123 (dk_at dksL_law_33 9 rfl rfl)
theorem dL_law_1030 : decode cL_law 1030 = .ok (.aload_n 2, 1) := dk_44 (dk_at dksL_law_33 12 rfl rfl)
theorem dL_law_1031 : decode cL_law 1031 = .ok (.invokevirtual 126, 3) := dk_182 0 126 (dk_at dksL_law_33 13 rfl rfl)
theorem dL_law_1034 : decode cL_law 1034 = .ok (.if_icmp .eq 1099, 3) := dk_159 4 75 (dk_at dksL_law_33 16 rfl rfl)
theorem dL_law_1037 : decode cL_law 1037 = .ok (.iconst 0, 1) := dk_3 (dk_at dksL_law_33 19 rfl rfl)
theorem dL_law_1038 : decode cL_law 1038 = .ok (.ireturn, 1) := dk_172 (dk_at dksL_law_33 20 rfl rfl)
theorem dL_law_1039 : decode cL_law 1039 = .ok (.aload_n 1, 1) := dk_43 (dk_at dksL_law_33 21 rfl rfl)
theorem dL_law_1040 : decode cL_law 1040 = .ok (.aload_n 0, 1) := dk_42 (dk_at dksL_law_33 22 rfl rfl)
theorem dL_law_1041 : decode cL_law 1041 = .ok (.iload_n 3, 1) := dk_29 (dk_at dksL_law_33 23 rfl rfl)
theorem dL_law_1042 : decode cL_law 1042 = .ok (.iconst 1, 1) := dk_4 (dk_at dksL_law_34 0 rfl rfl)
theorem dL_law_1043 : decode cL_law 1043 = .ok (.iadd, 1) := dk_96 (dk_at dksL_law_34 1 rfl rfl)
theorem dL_law_1044 : decode cL_law 1044 = .ok (.iaload, 1) := dk_46 (dk_at dksL_law_34 2 rfl rfl)
theorem dL_law_1045 : decode cL_law 1045 = .ok (.invokevirtual 127, 3) := dk_182 0 127 (dk_at dksL_law_34 3 rfl rfl)
theorem dL_law_1048 : decode cL_law 1048 = .ok (.aload_n 2, 1) := dk_44 (dk_at dksL_law_34 6 rfl rfl)
theorem dL_law_1049 : decode cL_law 1049 = .ok (.aload_n 0, 1) := dk_42 (dk_at dksL_law_34 7 rfl rfl)
theorem dL_law_1050 : decode cL_law 1050 = .ok (.iload_n 3, 1) := dk_29 (dk_at dksL_law_34 8 rfl rfl)
theorem dL_law_1051 : decode cL_law 1051 = .ok (.iconst 1, 1) := dk_4 (dk_at dksL_law_34 9 rfl rfl)
theorem dL_law_1052 : decode cL_law 1052 = .ok (.iadd, 1) := dk_96 (dk_at dksL_law_34 10 rfl rfl)
theorem dL_law_1053 : decode cL_law 1053 = .ok (.iaload, 1) := dk_46 (dk_at dksL_law_34 11 rfl rfl)
theorem dL_law_1054 : decode cL_law 1054 = .ok (.invokevirtual 130, 3) := dk_182 0 130 (dk_at dksL_law_34 12 rfl rfl)
theorem dL_law_1057 : decode cL_law 1057 = .ok (.if_icmp .eq 1076, 3) := dk_159 4 52 (dk_at dksL_law_34 15 rfl rfl)
theorem dL_law_1060 : decode cL_law 1060 = .ok (.iconst 0, 1) := dk_3 (dk_at dksL_law_34 18 rfl rfl)
theorem dL_law_1061 : decode cL_law 1061 = .ok (.ireturn, 1) := dk_172 (dk_at dksL_law_34 19 rfl rfl)
theorem dL_law_1062 : decode cL_law 1062 = .ok (.aload_n 1, 1) := dk_43 (dk_at dksL_law_34 20 rfl rfl)
theorem dL_law_1063 : decode cL_law 1063 = .ok (.aload_n 0, 1) := dk_42 (dk_at dksL_law_34 21 rfl rfl)
theorem dL_law_1064 : decode cL_law 1064 = .ok (.iload_n 3, 1) := dk_29 (dk_at dksL_law_34 22 rfl rfl)
theorem dL_law_1065 : decode cL_law 1065 = .ok (.iconst 1, 1) := dk_4 (dk_at dksL_law_34 23 rfl rfl)
theorem dL_law_1066 : decode cL_law 1066 = .ok (.iadd, 1) := dk_96 (dk_at dksL_law_35 0 rfl rfl)
theorem dL_law_1067 : decode cL_law 1067 = .ok (.iaload, 1) := dk_46 (dk_at dksL_law_35 1 rfl rfl)
theorem dL_law_1068 : decode cL_law 1068 = .ok (.invokevirtual 131, 3) := dk_182 0 131 (dk_at dksL_law_35 2 rfl rfl)
theorem dL_law_1071 : decode cL_law 1071 = .ok (.aload_n 2, 1) := dk_44 (dk_at dksL_law_35 5 rfl rfl)
theorem dL_law_1072 : decode cL_law 1072 = .ok (.aload_n 0, 1) := dk_42 (dk_at dksL_law_35 6 rfl rfl)
theorem dL_law_1073 : decode cL_law 1073 = .ok (.iload_n 3, 1) := dk_29 (dk_at dksL_law_35 7 rfl rfl)
theorem dL_law_1074 : decode cL_law 1074 = .ok (.iconst 1, 1) := dk_4 (dk_at dksL_law_35 8 rfl rfl)
theorem dL_law_1075 : decode cL_law 1075 = .ok (.iadd, 1) := dk_96 (dk_at dksL_law_35 9 rfl rfl)
theorem dL_law_1076 : decode cL_law 1076 = .ok (.iaload, 1) := dk_46 (dk_at dksL_law_35 10 rfl rfl)
theorem dL_law_1077 : decode cL_law 1077 = .ok (.invokevirtual 134, 3) := dk_182 0 134 (dk_at dksL_law_35 11 rfl rfl)
theorem dL_law_1080 : decode cL_law 1080 = .ok (.if_icmp .eq 1053, 3) := dk_159 4 29 (dk_at dksL_law_35 14 rfl rfl)
theorem dL_law_1083 : decode cL_law 1083 = .ok (.iconst 0, 1) := dk_3 (dk_at dksL_law_35 17 rfl rfl)
theorem dL_law_1084 : decode cL_law 1084 = .ok (.ireturn, 1) := dk_172 (dk_at dksL_law_35 18 rfl rfl)
theorem dL_law_1085 : decode cL_law 1085 = .ok (.aload_n 1, 1) := dk_43 (dk_at dksL_law_35 19 rfl rfl)
theorem dL_law_1086 : decode cL_law 1086 = .ok (.aload_n 0, 1) := dk_42 (dk_at dksL_law_35 20 rfl rfl)
theorem dL_law_1087 : decode cL_law 1087 = .ok (.iload_n 3, 1) := dk_29 (dk_at dksL_law_35 21 rfl rfl)
theorem dL_law_1088 : decode cL_law 1088 = .ok (.iconst 1, 1) := dk_4 (dk_at dksL_law_35 22 rfl rfl)
theorem dL_law_1089 : decode cL_law 1089 = .ok (.iadd, 1) := dk_96 (dk_at dksL_law_35 23 rfl rfl)
theorem dL_law_1090 : decode cL_law 1090 = .ok (.iaload, 1) := dk_46 (dk_at dksL_law_36 0 rfl rfl)
theorem dL_law_1091 : decode cL_law 1091 = .ok (.invokevirtual 135, 3) := dk_182 0 135 (dk_at dksL_law_36 1 rfl rfl)
theorem dL_law_1094 : decode cL_law 1094 = .ok (.aload_n 2, 1) := dk_44 (dk_at dksL_law_36 4 rfl rfl)
theorem dL_law_1095 : decode cL_law 1095 = .ok (.aload_n 0, 1) := dk_42 (dk_at dksL_law_36 5 rfl rfl)
theorem dL_law_1096 : decode cL_law 1096 = .ok (.iload_n 3, 1) := dk_29 (dk_at dksL_law_36 6 rfl rfl)
theorem dL_law_1097 : decode cL_law 1097 = .ok (.iconst 1, 1) := dk_4 (dk_at dksL_law_36 7 rfl rfl)
theorem dL_law_1098 : decode cL_law 1098 = .ok (.iadd, 1) := dk_96 (dk_at dksL_law_36 8 rfl rfl)
theorem dL_law_1099 : decode cL_law 1099 = .ok (.iaload, 1) := dk_46 (dk_at dksL_law_36 9 rfl rfl)
theorem dL_law_1100 : decode cL_law 1100 = .ok (.invokevirtual 138, 3) := dk_182 0 138 (dk_at dksL_law_36 10 rfl rfl)
theorem dL_law_1103 : decode cL_law 1103 = .ok (.if_icmp .eq 1030, 3) := dk_159 4 6 (dk_at dksL_law_36 13 rfl rfl)
theorem dL_law_1106 : decode cL_law 1106 = .ok (.iconst 0, 1) := dk_3 (dk_at dksL_law_36 16 rfl rfl)
theorem dL_law_1107 : decode cL_law 1107 = .ok (.ireturn, 1) := dk_172 (dk_at dksL_law_36 17 rfl rfl)
theorem dL_law_1108 : decode cL_law 1108 = .ok (.aload_n 1, 1) := dk_43 (dk_at dksL_law_36 18 rfl rfl)
theorem dL_law_1109 : decode cL_law 1109 = .ok (.aload_n 0, 1) := dk_42 (dk_at dksL_law_36 19 rfl rfl)
theorem dL_law_1110 : decode cL_law 1110 = .ok (.iload_n 3, 1) := dk_29 (dk_at dksL_law_36 20 rfl rfl)
theorem dL_law_1111 : decode cL_law 1111 = .ok (.iconst 1, 1) := dk_4 (dk_at dksL_law_36 21 rfl rfl)
theorem dL_law_1112 : decode cL_law 1112 = .ok (.iadd, 1) := dk_96 (dk_at dksL_law_36 22 rfl rfl)
theorem dL_law_1113 : decode cL_law 1113 = .ok (.iaload, 1) := dk_46 (dk_at dksL_law_36 23 rfl rfl)
theorem dL_law_1114 : decode cL_law 1114 = .ok (.invokevirtual 139, 3) := dk_182 0 139 (dk_at dksL_law_37 0 rfl rfl)
theorem dL_law_1117 : decode cL_law 1117 = .ok (.aload_n 2, 1) := dk_44 (dk_at dksL_law_37 3 rfl rfl)
theorem dL_law_1118 : decode cL_law 1118 = .ok (.aload_n 0, 1) := dk_42 (dk_at dksL_law_37 4 rfl rfl)
theorem dL_law_1119 : decode cL_law 1119 = .ok (.iload_n 3, 1) := dk_29 (dk_at dksL_law_37 5 rfl rfl)
theorem dL_law_1120 : decode cL_law 1120 = .ok (.iconst 1, 1) := dk_4 (dk_at dksL_law_37 6 rfl rfl)
theorem dL_law_1121 : decode cL_law 1121 = .ok (.iadd, 1) := dk_96 (dk_at dksL_law_37 7 rfl rfl)
theorem dL_law_1122 : decode cL_law 1122 = .ok (.iaload, 1) := dk_46 (dk_at dksL_law_37 8 rfl rfl)
theorem dL_law_1123 : decode cL_law 1123 = .ok (.invokevirtual 142, 3) := dk_182 0 142 (dk_at dksL_law_37 9 rfl rfl)
theorem dL_law_1126 : decode cL_law 1126 = .ok (.if_icmp .eq 1007, 3) := dk_159 3 239 (dk_at dksL_law_37 12 rfl rfl)
theorem dL_law_1129 : decode cL_law 1129 = .ok (.iconst 0, 1) := dk_3 (dk_at dksL_law_37 15 rfl rfl)
theorem dL_law_1130 : decode cL_law 1130 = .ok (.ireturn, 1) := dk_172 (dk_at dksL_law_37 16 rfl rfl)
theorem dL_law_1131 : decode cL_law 1131 = .ok (.aload_n 1, 1) := dk_43 (dk_at dksL_law_37 17 rfl rfl)
theorem dL_law_1132 : decode cL_law 1132 = .ok (.aload_n 0, 1) := dk_42 (dk_at dksL_law_37 18 rfl rfl)
theorem dL_law_1133 : decode cL_law 1133 = .ok (.iload_n 3, 1) := dk_29 (dk_at dksL_law_37 19 rfl rfl)
theorem dL_law_1134 : decode cL_law 1134 = .ok (.iconst 1, 1) := dk_4 (dk_at dksL_law_37 20 rfl rfl)
theorem dL_law_1135 : decode cL_law 1135 = .ok (.iadd, 1) := dk_96 (dk_at dksL_law_37 21 rfl rfl)
theorem dL_law_1136 : decode cL_law 1136 = .ok (.iaload, 1) := dk_46 (dk_at dksL_law_37 22 rfl rfl)
theorem dL_law_1137 : decode cL_law 1137 = .ok (.invokevirtual 143, 3) := dk_182 0 143 (dk_at dksL_law_38 0 rfl rfl)
theorem dL_law_1140 : decode cL_law 1140 = .ok (.aload_n 2, 1) := dk_44 (dk_at dksL_law_38 3 rfl rfl)
theorem dL_law_1141 : decode cL_law 1141 = .ok (.aload_n 0, 1) := dk_42 (dk_at dksL_law_38 4 rfl rfl)
theorem dL_law_1142 : decode cL_law 1142 = .ok (.iload_n 3, 1) := dk_29 (dk_at dksL_law_38 5 rfl rfl)
theorem dL_law_1143 : decode cL_law 1143 = .ok (.iconst 1, 1) := dk_4 (dk_at dksL_law_38 6 rfl rfl)
theorem dL_law_1144 : decode cL_law 1144 = .ok (.iadd, 1) := dk_96 (dk_at dksL_law_38 7 rfl rfl)
theorem dL_law_1145 : decode cL_law 1145 = .ok (.iaload, 1) := dk_46 (dk_at dksL_law_38 8 rfl rfl)
theorem dL_law_1146 : decode cL_law 1146 = .ok (.invokevirtual 146, 3) := dk_182 0 146 (dk_at dksL_law_38 9 rfl rfl)
theorem dL_law_1149 : decode cL_law 1149 = .ok (.if_icmp .eq 984, 3) := dk_159 3 216 (dk_at dksL_law_38 12 rfl rfl)
theorem dL_law_1152 : decode cL_law 1152 = .ok (.iconst 0, 1) := dk_3 (dk_at dksL_law_38 15 rfl rfl)
theorem dL_law_1153 : decode cL_law 1153 = .ok (.ireturn, 1) := dk_172 (dk_at dksL_law_38 16 rfl rfl)
theorem dL_law_1154 : decode cL_law 1154 = .ok (.aload_n 1, 1) := dk_43 (dk_at dksL_law_38 17 rfl rfl)
theorem dL_law_1155 : decode cL_law 1155 = .ok (.aload_n 0, 1) := dk_42 (dk_at dksL_law_38 18 rfl rfl)
theorem dL_law_1156 : decode cL_law 1156 = .ok (.iload_n 3, 1) := dk_29 (dk_at dksL_law_38 19 rfl rfl)
theorem dL_law_1157 : decode cL_law 1157 = .ok (.iconst 1, 1) := dk_4 (dk_at dksL_law_38 20 rfl rfl)
theorem dL_law_1158 : decode cL_law 1158 = .ok (.iadd, 1) := dk_96 (dk_at dksL_law_38 21 rfl rfl)
theorem dL_law_1159 : decode cL_law 1159 = .ok (.iaload, 1) := dk_46 (dk_at dksL_law_38 22 rfl rfl)
theorem dL_law_1160 : decode cL_law 1160 = .ok (.invokevirtual 147, 3) := dk_182 0 147 (dk_at dksL_law_39 0 rfl rfl)
theorem dL_law_1163 : decode cL_law 1163 = .ok (.aload_n 2, 1) := dk_44 (dk_at dksL_law_39 3 rfl rfl)
theorem dL_law_1164 : decode cL_law 1164 = .ok (.aload_n 0, 1) := dk_42 (dk_at dksL_law_39 4 rfl rfl)
theorem dL_law_1165 : decode cL_law 1165 = .ok (.iload_n 3, 1) := dk_29 (dk_at dksL_law_39 5 rfl rfl)
theorem dL_law_1166 : decode cL_law 1166 = .ok (.iconst 1, 1) := dk_4 (dk_at dksL_law_39 6 rfl rfl)
theorem dL_law_1167 : decode cL_law 1167 = .ok (.iadd, 1) := dk_96 (dk_at dksL_law_39 7 rfl rfl)
theorem dL_law_1168 : decode cL_law 1168 = .ok (.iaload, 1) := dk_46 (dk_at dksL_law_39 8 rfl rfl)
theorem dL_law_1169 : decode cL_law 1169 = .ok (.invokevirtual 150, 3) := dk_182 0 150 (dk_at dksL_law_39 9 rfl rfl)
theorem dL_law_1172 : decode cL_law 1172 = .ok (.if_icmp .eq 961, 3) := dk_159 3 193 (dk_at dksL_law_39 12 rfl rfl)
theorem dL_law_1175 : decode cL_law 1175 = .ok (.iconst 0, 1) := dk_3 (dk_at dksL_law_39 15 rfl rfl)
theorem dL_law_1176 : decode cL_law 1176 = .ok (.ireturn, 1) := dk_172 (dk_at dksL_law_39 16 rfl rfl)
theorem dL_law_1177 : decode cL_law 1177 = .ok (.aload_n 1, 1) := dk_43 (dk_at dksL_law_39 17 rfl rfl)
theorem dL_law_1178 : decode cL_law 1178 = .ok (.aload_n 0, 1) := dk_42 (dk_at dksL_law_39 18 rfl rfl)
theorem dL_law_1179 : decode cL_law 1179 = .ok (.iload_n 3, 1) := dk_29 (dk_at dksL_law_39 19 rfl rfl)
theorem dL_law_1180 : decode cL_law 1180 = .ok (.iconst 1, 1) := dk_4 (dk_at dksL_law_39 20 rfl rfl)
theorem dL_law_1181 : decode cL_law 1181 = .ok (.iadd, 1) := dk_96 (dk_at dksL_law_39 21 rfl rfl)
theorem dL_law_1182 : decode cL_law 1182 = .ok (.iaload, 1) := dk_46 (dk_at dksL_law_39 22 rfl rfl)
theorem dL_law_1183 : decode cL_law 1183 = .ok (.invokevirtual 151, 3) := dk_182 0 151 (dk_at dksL_law_40 0 rfl rfl)
theorem dL_law_1186 : decode cL_law 1186 = .ok (.aload_n 2, 1) := dk_44 (dk_at dksL_law_40 3 rfl rfl)
theorem dL_law_1187 : decode cL_law 1187 = .ok (.aload_n 0, 1) := dk_42 (dk_at dksL_law_40 4 rfl rfl)
theorem dL_law_1188 : decode cL_law 1188 = .ok (.iload_n 3, 1) := dk_29 (dk_at dksL_law_40 5 rfl rfl)
theorem dL_law_1189 : decode cL_law 1189 = .ok (.iconst 1, 1) := dk_4 (dk_at dksL_law_40 6 rfl rfl)
theorem dL_law_1190 : decode cL_law 1190 = .ok (.iadd, 1) := dk_96 (dk_at dksL_law_40 7 rfl rfl)
theorem dL_law_1191 : decode cL_law 1191 = .ok (.iaload, 1) := dk_46 (dk_at dksL_law_40 8 rfl rfl)
theorem dL_law_1192 : decode cL_law 1192 = .ok (.invokevirtual 154, 3) := dk_182 0 154 (dk_at dksL_law_40 9 rfl rfl)
theorem dL_law_1195 : decode cL_law 1195 = .ok (.if_icmp .eq 938, 3) := dk_159 3 170 (dk_at dksL_law_40 12 rfl rfl)
theorem dL_law_1198 : decode cL_law 1198 = .ok (.iconst 0, 1) := dk_3 (dk_at dksL_law_40 15 rfl rfl)
theorem dL_law_1199 : decode cL_law 1199 = .ok (.ireturn, 1) := dk_172 (dk_at dksL_law_40 16 rfl rfl)
theorem dL_law_1200 : decode cL_law 1200 = .ok (.aload_n 1, 1) := dk_43 (dk_at dksL_law_40 17 rfl rfl)
theorem dL_law_1201 : decode cL_law 1201 = .ok (.aload_n 0, 1) := dk_42 (dk_at dksL_law_40 18 rfl rfl)
theorem dL_law_1202 : decode cL_law 1202 = .ok (.iload_n 3, 1) := dk_29 (dk_at dksL_law_40 19 rfl rfl)
theorem dL_law_1203 : decode cL_law 1203 = .ok (.iconst 1, 1) := dk_4 (dk_at dksL_law_40 20 rfl rfl)
theorem dL_law_1204 : decode cL_law 1204 = .ok (.iadd, 1) := dk_96 (dk_at dksL_law_40 21 rfl rfl)
theorem dL_law_1205 : decode cL_law 1205 = .ok (.iaload, 1) := dk_46 (dk_at dksL_law_40 22 rfl rfl)
theorem dL_law_1206 : decode cL_law 1206 = .ok (.invokevirtual 155, 3) := dk_182 0 155 (dk_at dksL_law_41 0 rfl rfl)
theorem dL_law_1209 : decode cL_law 1209 = .ok (.aload_n 2, 1) := dk_44 (dk_at dksL_law_41 3 rfl rfl)
theorem dL_law_1210 : decode cL_law 1210 = .ok (.aload_n 0, 1) := dk_42 (dk_at dksL_law_41 4 rfl rfl)
theorem dL_law_1211 : decode cL_law 1211 = .ok (.iload_n 3, 1) := dk_29 (dk_at dksL_law_41 5 rfl rfl)
theorem dL_law_1212 : decode cL_law 1212 = .ok (.iconst 1, 1) := dk_4 (dk_at dksL_law_41 6 rfl rfl)
theorem dL_law_1213 : decode cL_law 1213 = .ok (.iadd, 1) := dk_96 (dk_at dksL_law_41 7 rfl rfl)
theorem dL_law_1214 : decode cL_law 1214 = .ok (.iaload, 1) := dk_46 (dk_at dksL_law_41 8 rfl rfl)
theorem dL_law_1215 : decode cL_law 1215 = .ok (.invokevirtual 158, 3) := dk_182 0 158 (dk_at dksL_law_41 9 rfl rfl)
theorem dL_law_1218 : decode cL_law 1218 = .ok (.if_icmp .eq 915, 3) := dk_159 3 147 (dk_at dksL_law_41 12 rfl rfl)
theorem dL_law_1221 : decode cL_law 1221 = .ok (.iconst 0, 1) := dk_3 (dk_at dksL_law_41 15 rfl rfl)
theorem dL_law_1222 : decode cL_law 1222 = .ok (.ireturn, 1) := dk_172 (dk_at dksL_law_41 16 rfl rfl)
theorem dL_law_1223 : decode cL_law 1223 = .ok (.aload_n 1, 1) := dk_43 (dk_at dksL_law_41 17 rfl rfl)
theorem dL_law_1224 : decode cL_law 1224 = .ok (.aload_n 0, 1) := dk_42 (dk_at dksL_law_41 18 rfl rfl)
theorem dL_law_1225 : decode cL_law 1225 = .ok (.iload_n 3, 1) := dk_29 (dk_at dksL_law_41 19 rfl rfl)
theorem dL_law_1226 : decode cL_law 1226 = .ok (.iconst 1, 1) := dk_4 (dk_at dksL_law_41 20 rfl rfl)
theorem dL_law_1227 : decode cL_law 1227 = .ok (.iadd, 1) := dk_96 (dk_at dksL_law_41 21 rfl rfl)
theorem dL_law_1228 : decode cL_law 1228 = .ok (.iaload, 1) := dk_46 (dk_at dksL_law_41 22 rfl rfl)
theorem dL_law_1229 : decode cL_law 1229 = .ok (.invokevirtual 159, 3) := dk_182 0 159 (dk_at dksL_law_42 0 rfl rfl)
theorem dL_law_1232 : decode cL_law 1232 = .ok (.aload_n 2, 1) := dk_44 (dk_at dksL_law_42 3 rfl rfl)
theorem dL_law_1233 : decode cL_law 1233 = .ok (.aload_n 0, 1) := dk_42 (dk_at dksL_law_42 4 rfl rfl)
theorem dL_law_1234 : decode cL_law 1234 = .ok (.iload_n 3, 1) := dk_29 (dk_at dksL_law_42 5 rfl rfl)
theorem dL_law_1235 : decode cL_law 1235 = .ok (.iconst 1, 1) := dk_4 (dk_at dksL_law_42 6 rfl rfl)
theorem dL_law_1236 : decode cL_law 1236 = .ok (.iadd, 1) := dk_96 (dk_at dksL_law_42 7 rfl rfl)
theorem dL_law_1237 : decode cL_law 1237 = .ok (.iaload, 1) := dk_46 (dk_at dksL_law_42 8 rfl rfl)
theorem dL_law_1238 : decode cL_law 1238 = .ok (.invokevirtual 162, 3) := dk_182 0 162 (dk_at dksL_law_42 9 rfl rfl)
theorem dL_law_1241 : decode cL_law 1241 = .ok (.if_icmp .eq 892, 3) := dk_159 3 124 (dk_at dksL_law_42 12 rfl rfl)
theorem dL_law_1244 : decode cL_law 1244 = .ok (.iconst 0, 1) := dk_3 (dk_at dksL_law_42 15 rfl rfl)
theorem dL_law_1245 : decode cL_law 1245 = .ok (.ireturn, 1) := dk_172 (dk_at dksL_law_42 16 rfl rfl)
theorem dL_law_1246 : decode cL_law 1246 = .ok (.aload_n 1, 1) := dk_43 (dk_at dksL_law_42 17 rfl rfl)
theorem dL_law_1247 : decode cL_law 1247 = .ok (.aload_n 0, 1) := dk_42 (dk_at dksL_law_42 18 rfl rfl)
theorem dL_law_1248 : decode cL_law 1248 = .ok (.iload_n 3, 1) := dk_29 (dk_at dksL_law_42 19 rfl rfl)
theorem dL_law_1249 : decode cL_law 1249 = .ok (.iconst 1, 1) := dk_4 (dk_at dksL_law_42 20 rfl rfl)
theorem dL_law_1250 : decode cL_law 1250 = .ok (.iadd, 1) := dk_96 (dk_at dksL_law_42 21 rfl rfl)
theorem dL_law_1251 : decode cL_law 1251 = .ok (.iaload, 1) := dk_46 (dk_at dksL_law_42 22 rfl rfl)
theorem dL_law_1252 : decode cL_law 1252 = .ok (.invokevirtual 163, 3) := dk_182 0 163 (dk_at dksL_law_43 0 rfl rfl)
theorem dL_law_1255 : decode cL_law 1255 = .ok (.aload_n 2, 1) := dk_44 (dk_at dksL_law_43 3 rfl rfl)
theorem dL_law_1256 : decode cL_law 1256 = .ok (.aload_n 0, 1) := dk_42 (dk_at dksL_law_43 4 rfl rfl)
theorem dL_law_1257 : decode cL_law 1257 = .ok (.iload_n 3, 1) := dk_29 (dk_at dksL_law_43 5 rfl rfl)
theorem dL_law_1258 : decode cL_law 1258 = .ok (.iconst 1, 1) := dk_4 (dk_at dksL_law_43 6 rfl rfl)
theorem dL_law_1259 : decode cL_law 1259 = .ok (.iadd, 1) := dk_96 (dk_at dksL_law_43 7 rfl rfl)
theorem dL_law_1260 : decode cL_law 1260 = .ok (.iaload, 1) := dk_46 (dk_at dksL_law_43 8 rfl rfl)
theorem dL_law_1261 : decode cL_law 1261 = .ok (.invokevirtual 166, 3) := dk_182 0 166 (dk_at dksL_law_43 9 rfl rfl)
theorem dL_law_1264 : decode cL_law 1264 = .ok (.if_icmp .eq 869, 3) := dk_159 3 101 (dk_at dksL_law_43 12 rfl rfl)
theorem dL_law_1267 : decode cL_law 1267 = .ok (.iconst 0, 1) := dk_3 (dk_at dksL_law_43 15 rfl rfl)
theorem dL_law_1268 : decode cL_law 1268 = .ok (.ireturn, 1) := dk_172 (dk_at dksL_law_43 16 rfl rfl)
theorem dL_law_1269 : decode cL_law 1269 = .ok (.aload_n 1, 1) := dk_43 (dk_at dksL_law_43 17 rfl rfl)
theorem dL_law_1270 : decode cL_law 1270 = .ok (.aload_n 0, 1) := dk_42 (dk_at dksL_law_43 18 rfl rfl)
theorem dL_law_1271 : decode cL_law 1271 = .ok (.iload_n 3, 1) := dk_29 (dk_at dksL_law_43 19 rfl rfl)
theorem dL_law_1272 : decode cL_law 1272 = .ok (.iconst 1, 1) := dk_4 (dk_at dksL_law_43 20 rfl rfl)
theorem dL_law_1273 : decode cL_law 1273 = .ok (.iadd, 1) := dk_96 (dk_at dksL_law_43 21 rfl rfl)
theorem dL_law_1274 : decode cL_law 1274 = .ok (.iaload, 1) := dk_46 (dk_at dksL_law_43 22 rfl rfl)
theorem dL_law_1275 : decode cL_law 1275 = .ok (.invokevirtual 167, 3) := dk_182 0 167 (dk_at dksL_law_44 0 rfl rfl)
theorem dL_law_1278 : decode cL_law 1278 = .ok (.aload_n 2, 1) := dk_44 (dk_at dksL_law_44 3 rfl rfl)
theorem dL_law_1279 : decode cL_law 1279 = .ok (.aload_n 0, 1) := dk_42 (dk_at dksL_law_44 4 rfl rfl)
theorem dL_law_1280 : decode cL_law 1280 = .ok (.iload_n 3, 1) := dk_29 (dk_at dksL_law_44 5 rfl rfl)
theorem dL_law_1281 : decode cL_law 1281 = .ok (.iconst 1, 1) := dk_4 (dk_at dksL_law_44 6 rfl rfl)
theorem dL_law_1282 : decode cL_law 1282 = .ok (.iadd, 1) := dk_96 (dk_at dksL_law_44 7 rfl rfl)
theorem dL_law_1283 : decode cL_law 1283 = .ok (.iaload, 1) := dk_46 (dk_at dksL_law_44 8 rfl rfl)
theorem dL_law_1284 : decode cL_law 1284 = .ok (.invokevirtual 170, 3) := dk_182 0 170 (dk_at dksL_law_44 9 rfl rfl)
theorem dL_law_1287 : decode cL_law 1287 = .ok (.if_icmp .eq 846, 3) := dk_159 3 78 (dk_at dksL_law_44 12 rfl rfl)
theorem dL_law_1290 : decode cL_law 1290 = .ok (.iconst 0, 1) := dk_3 (dk_at dksL_law_44 15 rfl rfl)
theorem dL_law_1291 : decode cL_law 1291 = .ok (.ireturn, 1) := dk_172 (dk_at dksL_law_44 16 rfl rfl)
theorem dL_law_1292 : decode cL_law 1292 = .ok (.aload_n 1, 1) := dk_43 (dk_at dksL_law_44 17 rfl rfl)
theorem dL_law_1293 : decode cL_law 1293 = .ok (.aload_n 0, 1) := dk_42 (dk_at dksL_law_44 18 rfl rfl)
theorem dL_law_1294 : decode cL_law 1294 = .ok (.iload_n 3, 1) := dk_29 (dk_at dksL_law_44 19 rfl rfl)
theorem dL_law_1295 : decode cL_law 1295 = .ok (.iconst 1, 1) := dk_4 (dk_at dksL_law_44 20 rfl rfl)
theorem dL_law_1296 : decode cL_law 1296 = .ok (.iadd, 1) := dk_96 (dk_at dksL_law_44 21 rfl rfl)
theorem dL_law_1297 : decode cL_law 1297 = .ok (.iaload, 1) := dk_46 (dk_at dksL_law_44 22 rfl rfl)
theorem dL_law_1298 : decode cL_law 1298 = .ok (.aload_n 0, 1) := dk_42 (dk_at dksL_law_44 23 rfl rfl)
theorem dL_law_1299 : decode cL_law 1299 = .ok (.iload_n 3, 1) := dk_29 (dk_at dksL_law_45 0 rfl rfl)
theorem dL_law_1300 : decode cL_law 1300 = .ok (.iconst 2, 1) := dk_5 (dk_at dksL_law_45 1 rfl rfl)
theorem dL_law_1301 : decode cL_law 1301 = .ok (.iadd, 1) := dk_96 (dk_at dksL_law_45 2 rfl rfl)
theorem dL_law_1302 : decode cL_law 1302 = .ok (.iaload, 1) := dk_46 (dk_at dksL_law_45 3 rfl rfl)
theorem dL_law_1303 : decode cL_law 1303 = .ok (.aload_n 0, 1) := dk_42 (dk_at dksL_law_45 4 rfl rfl)
theorem dL_law_1304 : decode cL_law 1304 = .ok (.iload_n 3, 1) := dk_29 (dk_at dksL_law_45 5 rfl rfl)
theorem dL_law_1305 : decode cL_law 1305 = .ok (.iconst 3, 1) := dk_6 (dk_at dksL_law_45 6 rfl rfl)
theorem dL_law_1306 : decode cL_law 1306 = .ok (.iadd, 1) := dk_96 (dk_at dksL_law_45 7 rfl rfl)
theorem dL_law_1307 : decode cL_law 1307 = .ok (.iaload, 1) := dk_46 (dk_at dksL_law_45 8 rfl rfl)
theorem dL_law_1308 : decode cL_law 1308 = .ok (.invokevirtual 171, 3) := dk_182 0 171 (dk_at dksL_law_45 9 rfl rfl)
theorem dL_law_1311 : decode cL_law 1311 = .ok (.aload_n 2, 1) := dk_44 (dk_at dksL_law_45 12 rfl rfl)
theorem dL_law_1312 : decode cL_law 1312 = .ok (.aload_n 0, 1) := dk_42 (dk_at dksL_law_45 13 rfl rfl)
theorem dL_law_1313 : decode cL_law 1313 = .ok (.iload_n 3, 1) := dk_29 (dk_at dksL_law_45 14 rfl rfl)
theorem dL_law_1314 : decode cL_law 1314 = .ok (.iconst 1, 1) := dk_4 (dk_at dksL_law_45 15 rfl rfl)
theorem dL_law_1315 : decode cL_law 1315 = .ok (.iadd, 1) := dk_96 (dk_at dksL_law_45 16 rfl rfl)
theorem dL_law_1316 : decode cL_law 1316 = .ok (.iaload, 1) := dk_46 (dk_at dksL_law_45 17 rfl rfl)
theorem dL_law_1317 : decode cL_law 1317 = .ok (.aload_n 0, 1) := dk_42 (dk_at dksL_law_45 18 rfl rfl)
theorem dL_law_1318 : decode cL_law 1318 = .ok (.iload_n 3, 1) := dk_29 (dk_at dksL_law_45 19 rfl rfl)
theorem dL_law_1319 : decode cL_law 1319 = .ok (.iconst 2, 1) := dk_5 (dk_at dksL_law_45 20 rfl rfl)
theorem dL_law_1320 : decode cL_law 1320 = .ok (.iadd, 1) := dk_96 (dk_at dksL_law_45 21 rfl rfl)
theorem dL_law_1321 : decode cL_law 1321 = .ok (.iaload, 1) := dk_46 (dk_at dksL_law_45 22 rfl rfl)
theorem dL_law_1322 : decode cL_law 1322 = .ok (.aload_n 0, 1) := dk_42 (dk_at dksL_law_45 23 rfl rfl)
theorem dL_law_1323 : decode cL_law 1323 = .ok (.iload_n 3, 1) := dk_29 (dk_at dksL_law_46 0 rfl rfl)
theorem dL_law_1324 : decode cL_law 1324 = .ok (.iconst 3, 1) := dk_6 (dk_at dksL_law_46 1 rfl rfl)
theorem dL_law_1325 : decode cL_law 1325 = .ok (.iadd, 1) := dk_96 (dk_at dksL_law_46 2 rfl rfl)
theorem dL_law_1326 : decode cL_law 1326 = .ok (.iaload, 1) := dk_46 (dk_at dksL_law_46 3 rfl rfl)
theorem dL_law_1327 : decode cL_law 1327 = .ok (.invokevirtual 174, 3) := dk_182 0 174 (dk_at dksL_law_46 4 rfl rfl)
theorem dL_law_1330 : decode cL_law 1330 = .ok (.if_icmp .eq 803, 3) := dk_159 3 35 (dk_at dksL_law_46 7 rfl rfl)
theorem dL_law_1333 : decode cL_law 1333 = .ok (.iconst 0, 1) := dk_3 (dk_at dksL_law_46 10 rfl rfl)
theorem dL_law_1334 : decode cL_law 1334 = .ok (.ireturn, 1) := dk_172 (dk_at dksL_law_46 11 rfl rfl)
theorem dL_law_1335 : decode cL_law 1335 = .ok (.aload_n 1, 1) := dk_43 (dk_at dksL_law_46 12 rfl rfl)
theorem dL_law_1336 : decode cL_law 1336 = .ok (.aload_n 0, 1) := dk_42 (dk_at dksL_law_46 13 rfl rfl)
theorem dL_law_1337 : decode cL_law 1337 = .ok (.iload_n 3, 1) := dk_29 (dk_at dksL_law_46 14 rfl rfl)
theorem dL_law_1338 : decode cL_law 1338 = .ok (.iconst 1, 1) := dk_4 (dk_at dksL_law_46 15 rfl rfl)
theorem dL_law_1339 : decode cL_law 1339 = .ok (.iadd, 1) := dk_96 (dk_at dksL_law_46 16 rfl rfl)
theorem dL_law_1340 : decode cL_law 1340 = .ok (.iaload, 1) := dk_46 (dk_at dksL_law_46 17 rfl rfl)
theorem dL_law_1341 : decode cL_law 1341 = .ok (.aload_n 0, 1) := dk_42 (dk_at dksL_law_46 18 rfl rfl)
theorem dL_law_1342 : decode cL_law 1342 = .ok (.iload_n 3, 1) := dk_29 (dk_at dksL_law_46 19 rfl rfl)
theorem dL_law_1343 : decode cL_law 1343 = .ok (.iconst 2, 1) := dk_5 (dk_at dksL_law_46 20 rfl rfl)
theorem dL_law_1344 : decode cL_law 1344 = .ok (.iadd, 1) := dk_96 (dk_at dksL_law_46 21 rfl rfl)
theorem dL_law_1345 : decode cL_law 1345 = .ok (.iaload, 1) := dk_46 (dk_at dksL_law_46 22 rfl rfl)
theorem dL_law_1346 : decode cL_law 1346 = .ok (.invokevirtual 175, 3) := dk_182 0 175 (dk_at dksL_law_47 0 rfl rfl)
theorem dL_law_1349 : decode cL_law 1349 = .ok (.aload_n 2, 1) := dk_44 (dk_at dksL_law_47 3 rfl rfl)
theorem dL_law_1350 : decode cL_law 1350 = .ok (.aload_n 0, 1) := dk_42 (dk_at dksL_law_47 4 rfl rfl)
theorem dL_law_1351 : decode cL_law 1351 = .ok (.iload_n 3, 1) := dk_29 (dk_at dksL_law_47 5 rfl rfl)
theorem dL_law_1352 : decode cL_law 1352 = .ok (.iconst 1, 1) := dk_4 (dk_at dksL_law_47 6 rfl rfl)
theorem dL_law_1353 : decode cL_law 1353 = .ok (.iadd, 1) := dk_96 (dk_at dksL_law_47 7 rfl rfl)
theorem dL_law_1354 : decode cL_law 1354 = .ok (.iaload, 1) := dk_46 (dk_at dksL_law_47 8 rfl rfl)
theorem dL_law_1355 : decode cL_law 1355 = .ok (.aload_n 0, 1) := dk_42 (dk_at dksL_law_47 9 rfl rfl)
theorem dL_law_1356 : decode cL_law 1356 = .ok (.iload_n 3, 1) := dk_29 (dk_at dksL_law_47 10 rfl rfl)
theorem dL_law_1357 : decode cL_law 1357 = .ok (.iconst 2, 1) := dk_5 (dk_at dksL_law_47 11 rfl rfl)
theorem dL_law_1358 : decode cL_law 1358 = .ok (.iadd, 1) := dk_96 (dk_at dksL_law_47 12 rfl rfl)
theorem dL_law_1359 : decode cL_law 1359 = .ok (.iaload, 1) := dk_46 (dk_at dksL_law_47 13 rfl rfl)
theorem dL_law_1360 : decode cL_law 1360 = .ok (.invokevirtual 178, 3) := dk_182 0 178 (dk_at dksL_law_47 14 rfl rfl)
theorem dL_law_1363 : decode cL_law 1363 = .ok (.if_icmp .eq 770, 3) := dk_159 3 2 (dk_at dksL_law_47 17 rfl rfl)
theorem dL_law_1366 : decode cL_law 1366 = .ok (.iconst 0, 1) := dk_3 (dk_at dksL_law_47 20 rfl rfl)
theorem dL_law_1367 : decode cL_law 1367 = .ok (.ireturn, 1) := dk_172 (dk_at dksL_law_47 21 rfl rfl)
theorem dL_law_1368 : decode cL_law 1368 = .ok (.aload_n 1, 1) := dk_43 (dk_at dksL_law_47 22 rfl rfl)
theorem dL_law_1369 : decode cL_law 1369 = .ok (.aload_n 0, 1) := dk_42 (dk_at dksL_law_47 23 rfl rfl)
theorem dL_law_1370 : decode cL_law 1370 = .ok (.iload_n 3, 1) := dk_29 (dk_at dksL_law_48 0 rfl rfl)
theorem dL_law_1371 : decode cL_law 1371 = .ok (.iconst 1, 1) := dk_4 (dk_at dksL_law_48 1 rfl rfl)
theorem dL_law_1372 : decode cL_law 1372 = .ok (.iadd, 1) := dk_96 (dk_at dksL_law_48 2 rfl rfl)
theorem dL_law_1373 : decode cL_law 1373 = .ok (.iaload, 1) := dk_46 (dk_at dksL_law_48 3 rfl rfl)
theorem dL_law_1374 : decode cL_law 1374 = .ok (.aload_n 0, 1) := dk_42 (dk_at dksL_law_48 4 rfl rfl)
theorem dL_law_1375 : decode cL_law 1375 = .ok (.iload_n 3, 1) := dk_29 (dk_at dksL_law_48 5 rfl rfl)
theorem dL_law_1376 : decode cL_law 1376 = .ok (.iconst 2, 1) := dk_5 (dk_at dksL_law_48 6 rfl rfl)
theorem dL_law_1377 : decode cL_law 1377 = .ok (.iadd, 1) := dk_96 (dk_at dksL_law_48 7 rfl rfl)
theorem dL_law_1378 : decode cL_law 1378 = .ok (.iaload, 1) := dk_46 (dk_at dksL_law_48 8 rfl rfl)
theorem dL_law_1379 : decode cL_law 1379 = .ok (.invokevirtual 179, 3) := dk_182 0 179 (dk_at dksL_law_48 9 rfl rfl)
theorem dL_law_1382 : decode cL_law 1382 = .ok (.aload_n 2, 1) := dk_44 (dk_at dksL_law_48 12 rfl rfl)
theorem dL_law_1383 : decode cL_law 1383 = .ok (.aload_n 0, 1) := dk_42 (dk_at dksL_law_48 13 rfl rfl)
theorem dL_law_1384 : decode cL_law 1384 = .ok (.iload_n 3, 1) := dk_29 (dk_at dksL_law_48 14 rfl rfl)
theorem dL_law_1385 : decode cL_law 1385 = .ok (.iconst 1, 1) := dk_4 (dk_at dksL_law_48 15 rfl rfl)
theorem dL_law_1386 : decode cL_law 1386 = .ok (.iadd, 1) := dk_96 (dk_at dksL_law_48 16 rfl rfl)
theorem dL_law_1387 : decode cL_law 1387 = .ok (.iaload, 1) := dk_46 (dk_at dksL_law_48 17 rfl rfl)
theorem dL_law_1388 : decode cL_law 1388 = .ok (.aload_n 0, 1) := dk_42 (dk_at dksL_law_48 18 rfl rfl)
theorem dL_law_1389 : decode cL_law 1389 = .ok (.iload_n 3, 1) := dk_29 (dk_at dksL_law_48 19 rfl rfl)
theorem dL_law_1390 : decode cL_law 1390 = .ok (.iconst 2, 1) := dk_5 (dk_at dksL_law_48 20 rfl rfl)
theorem dL_law_1391 : decode cL_law 1391 = .ok (.iadd, 1) := dk_96 (dk_at dksL_law_48 21 rfl rfl)
theorem dL_law_1392 : decode cL_law 1392 = .ok (.iaload, 1) := dk_46 (dk_at dksL_law_48 22 rfl rfl)
theorem dL_law_1393 : decode cL_law 1393 = .ok (.invokevirtual 182, 3) := dk_182 0 182 (dk_at dksL_law_49 0 rfl rfl)
theorem dL_law_1396 : decode cL_law 1396 = .ok (.if_icmp .eq 737, 3) := dk_159 2 225 (dk_at dksL_law_49 3 rfl rfl)
theorem dL_law_1399 : decode cL_law 1399 = .ok (.iconst 0, 1) := dk_3 (dk_at dksL_law_49 6 rfl rfl)
theorem dL_law_1400 : decode cL_law 1400 = .ok (.ireturn, 1) := dk_172 (dk_at dksL_law_49 7 rfl rfl)
theorem dL_law_1401 : decode cL_law 1401 = .ok (.aload_n 1, 1) := dk_43 (dk_at dksL_law_49 8 rfl rfl)
theorem dL_law_1402 : decode cL_law 1402 = .ok (.aload_n 0, 1) := dk_42 (dk_at dksL_law_49 9 rfl rfl)
theorem dL_law_1403 : decode cL_law 1403 = .ok (.iload_n 3, 1) := dk_29 (dk_at dksL_law_49 10 rfl rfl)
theorem dL_law_1404 : decode cL_law 1404 = .ok (.iconst 1, 1) := dk_4 (dk_at dksL_law_49 11 rfl rfl)
theorem dL_law_1405 : decode cL_law 1405 = .ok (.iadd, 1) := dk_96 (dk_at dksL_law_49 12 rfl rfl)
theorem dL_law_1406 : decode cL_law 1406 = .ok (.iaload, 1) := dk_46 (dk_at dksL_law_49 13 rfl rfl)
theorem dL_law_1407 : decode cL_law 1407 = .ok (.aload_n 0, 1) := dk_42 (dk_at dksL_law_49 14 rfl rfl)
theorem dL_law_1408 : decode cL_law 1408 = .ok (.iload_n 3, 1) := dk_29 (dk_at dksL_law_49 15 rfl rfl)
theorem dL_law_1409 : decode cL_law 1409 = .ok (.iconst 2, 1) := dk_5 (dk_at dksL_law_49 16 rfl rfl)
theorem dL_law_1410 : decode cL_law 1410 = .ok (.iadd, 1) := dk_96 (dk_at dksL_law_49 17 rfl rfl)
theorem dL_law_1411 : decode cL_law 1411 = .ok (.iaload, 1) := dk_46 (dk_at dksL_law_49 18 rfl rfl)
theorem dL_law_1412 : decode cL_law 1412 = .ok (.invokevirtual 183, 3) := dk_182 0 183 (dk_at dksL_law_49 19 rfl rfl)
theorem dL_law_1415 : decode cL_law 1415 = .ok (.aload_n 2, 1) := dk_44 (dk_at dksL_law_49 22 rfl rfl)
theorem dL_law_1416 : decode cL_law 1416 = .ok (.aload_n 0, 1) := dk_42 (dk_at dksL_law_49 23 rfl rfl)
theorem dL_law_1417 : decode cL_law 1417 = .ok (.iload_n 3, 1) := dk_29 (dk_at dksL_law_50 0 rfl rfl)
theorem dL_law_1418 : decode cL_law 1418 = .ok (.iconst 1, 1) := dk_4 (dk_at dksL_law_50 1 rfl rfl)
theorem dL_law_1419 : decode cL_law 1419 = .ok (.iadd, 1) := dk_96 (dk_at dksL_law_50 2 rfl rfl)
theorem dL_law_1420 : decode cL_law 1420 = .ok (.iaload, 1) := dk_46 (dk_at dksL_law_50 3 rfl rfl)
theorem dL_law_1421 : decode cL_law 1421 = .ok (.aload_n 0, 1) := dk_42 (dk_at dksL_law_50 4 rfl rfl)
theorem dL_law_1422 : decode cL_law 1422 = .ok (.iload_n 3, 1) := dk_29 (dk_at dksL_law_50 5 rfl rfl)
theorem dL_law_1423 : decode cL_law 1423 = .ok (.iconst 2, 1) := dk_5 (dk_at dksL_law_50 6 rfl rfl)
theorem dL_law_1424 : decode cL_law 1424 = .ok (.iadd, 1) := dk_96 (dk_at dksL_law_50 7 rfl rfl)
theorem dL_law_1425 : decode cL_law 1425 = .ok (.iaload, 1) := dk_46 (dk_at dksL_law_50 8 rfl rfl)
theorem dL_law_1426 : decode cL_law 1426 = .ok (.invokevirtual 186, 3) := dk_182 0 186 (dk_at dksL_law_50 9 rfl rfl)
theorem dL_law_1429 : decode cL_law 1429 = .ok (.if_icmp .eq 704, 3) := dk_159 2 192 (dk_at dksL_law_50 12 rfl rfl)
theorem dL_law_1432 : decode cL_law 1432 = .ok (.iconst 0, 1) := dk_3 (dk_at dksL_law_50 15 rfl rfl)
theorem dL_law_1433 : decode cL_law 1433 = .ok (.ireturn, 1) := dk_172 (dk_at dksL_law_50 16 rfl rfl)
theorem dL_law_1434 : decode cL_law 1434 = .ok (.aload_n 1, 1) := dk_43 (dk_at dksL_law_50 17 rfl rfl)
theorem dL_law_1435 : decode cL_law 1435 = .ok (.aload_n 0, 1) := dk_42 (dk_at dksL_law_50 18 rfl rfl)
theorem dL_law_1436 : decode cL_law 1436 = .ok (.iload_n 3, 1) := dk_29 (dk_at dksL_law_50 19 rfl rfl)
theorem dL_law_1437 : decode cL_law 1437 = .ok (.iconst 1, 1) := dk_4 (dk_at dksL_law_50 20 rfl rfl)
theorem dL_law_1438 : decode cL_law 1438 = .ok (.iadd, 1) := dk_96 (dk_at dksL_law_50 21 rfl rfl)
theorem dL_law_1439 : decode cL_law 1439 = .ok (.iaload, 1) := dk_46 (dk_at dksL_law_50 22 rfl rfl)
theorem dL_law_1440 : decode cL_law 1440 = .ok (.invokevirtual 187, 3) := dk_182 0 187 (dk_at dksL_law_51 0 rfl rfl)
theorem dL_law_1443 : decode cL_law 1443 = .ok (.aload_n 2, 1) := dk_44 (dk_at dksL_law_51 3 rfl rfl)
theorem dL_law_1444 : decode cL_law 1444 = .ok (.aload_n 0, 1) := dk_42 (dk_at dksL_law_51 4 rfl rfl)
theorem dL_law_1445 : decode cL_law 1445 = .ok (.iload_n 3, 1) := dk_29 (dk_at dksL_law_51 5 rfl rfl)
theorem dL_law_1446 : decode cL_law 1446 = .ok (.iconst 1, 1) := dk_4 (dk_at dksL_law_51 6 rfl rfl)
theorem dL_law_1447 : decode cL_law 1447 = .ok (.iadd, 1) := dk_96 (dk_at dksL_law_51 7 rfl rfl)
theorem dL_law_1448 : decode cL_law 1448 = .ok (.iaload, 1) := dk_46 (dk_at dksL_law_51 8 rfl rfl)
theorem dL_law_1449 : decode cL_law 1449 = .ok (.invokevirtual 190, 3) := dk_182 0 190 (dk_at dksL_law_51 9 rfl rfl)
theorem dL_law_1452 : decode cL_law 1452 = .ok (.if_icmp .eq 681, 3) := dk_159 2 169 (dk_at dksL_law_51 12 rfl rfl)
theorem dL_law_1455 : decode cL_law 1455 = .ok (.iconst 0, 1) := dk_3 (dk_at dksL_law_51 15 rfl rfl)
theorem dL_law_1456 : decode cL_law 1456 = .ok (.ireturn, 1) := dk_172 (dk_at dksL_law_51 16 rfl rfl)
theorem dL_law_1457 : decode cL_law 1457 = .ok (.aload_n 1, 1) := dk_43 (dk_at dksL_law_51 17 rfl rfl)
theorem dL_law_1458 : decode cL_law 1458 = .ok (.invokevirtual 191, 3) := dk_182 0 191 (dk_at dksL_law_51 18 rfl rfl)
theorem dL_law_1461 : decode cL_law 1461 = .ok (.aload_n 2, 1) := dk_44 (dk_at dksL_law_51 21 rfl rfl)
theorem dL_law_1462 : decode cL_law 1462 = .ok (.invokevirtual 194, 3) := dk_182 0 194 (dk_at dksL_law_52 0 rfl rfl)
theorem dL_law_1465 : decode cL_law 1465 = .ok (.if_icmp .eq 668, 3) := dk_159 2 156 (dk_at dksL_law_52 3 rfl rfl)
theorem dL_law_1468 : decode cL_law 1468 = .ok (.iconst 0, 1) := dk_3 (dk_at dksL_law_52 6 rfl rfl)
theorem dL_law_1469 : decode cL_law 1469 = .ok (.ireturn, 1) := dk_172 (dk_at dksL_law_52 7 rfl rfl)
theorem dL_law_1470 : decode cL_law 1470 = .ok (.aload_n 1, 1) := dk_43 (dk_at dksL_law_52 8 rfl rfl)
theorem dL_law_1471 : decode cL_law 1471 = .ok (.invokevirtual 195, 3) := dk_182 0 195 (dk_at dksL_law_52 9 rfl rfl)
theorem dL_law_1474 : decode cL_law 1474 = .ok (.aload_n 2, 1) := dk_44 (dk_at dksL_law_52 12 rfl rfl)
theorem dL_law_1475 : decode cL_law 1475 = .ok (.invokevirtual 198, 3) := dk_182 0 198 (dk_at dksL_law_52 13 rfl rfl)
theorem dL_law_1478 : decode cL_law 1478 = .ok (.if_icmp .eq 655, 3) := dk_159 2 143 (dk_at dksL_law_52 16 rfl rfl)
theorem dL_law_1481 : decode cL_law 1481 = .ok (.iconst 0, 1) := dk_3 (dk_at dksL_law_52 19 rfl rfl)
theorem dL_law_1482 : decode cL_law 1482 = .ok (.ireturn, 1) := dk_172 (dk_at dksL_law_52 20 rfl rfl)
theorem dL_law_1483 : decode cL_law 1483 = .ok (.aload_n 1, 1) := dk_43 (dk_at dksL_law_52 21 rfl rfl)
theorem dL_law_1484 : decode cL_law 1484 = .ok (.aload_n 0, 1) := dk_42 (dk_at dksL_law_52 22 rfl rfl)
theorem dL_law_1485 : decode cL_law 1485 = .ok (.iload_n 3, 1) := dk_29 (dk_at dksL_law_52 23 rfl rfl)
theorem dL_law_1486 : decode cL_law 1486 = .ok (.iconst 1, 1) := dk_4 (dk_at dksL_law_53 0 rfl rfl)
theorem dL_law_1487 : decode cL_law 1487 = .ok (.iadd, 1) := dk_96 (dk_at dksL_law_53 1 rfl rfl)
theorem dL_law_1488 : decode cL_law 1488 = .ok (.iaload, 1) := dk_46 (dk_at dksL_law_53 2 rfl rfl)
theorem dL_law_1489 : decode cL_law 1489 = .ok (.aload_n 0, 1) := dk_42 (dk_at dksL_law_53 3 rfl rfl)
theorem dL_law_1490 : decode cL_law 1490 = .ok (.iload_n 3, 1) := dk_29 (dk_at dksL_law_53 4 rfl rfl)
theorem dL_law_1491 : decode cL_law 1491 = .ok (.iconst 2, 1) := dk_5 (dk_at dksL_law_53 5 rfl rfl)
theorem dL_law_1492 : decode cL_law 1492 = .ok (.iadd, 1) := dk_96 (dk_at dksL_law_53 6 rfl rfl)
theorem dL_law_1493 : decode cL_law 1493 = .ok (.iaload, 1) := dk_46 (dk_at dksL_law_53 7 rfl rfl)
theorem dL_law_1494 : decode cL_law 1494 = .ok (.invokevirtual 199, 3) := dk_182 0 199 (dk_at dksL_law_53 8 rfl rfl)
theorem dL_law_1497 : decode cL_law 1497 = .ok (.aload_n 2, 1) := dk_44 (dk_at dksL_law_53 11 rfl rfl)
theorem dL_law_1498 : decode cL_law 1498 = .ok (.aload_n 0, 1) := dk_42 (dk_at dksL_law_53 12 rfl rfl)
theorem dL_law_1499 : decode cL_law 1499 = .ok (.iload_n 3, 1) := dk_29 (dk_at dksL_law_53 13 rfl rfl)
theorem dL_law_1500 : decode cL_law 1500 = .ok (.iconst 1, 1) := dk_4 (dk_at dksL_law_53 14 rfl rfl)
theorem dL_law_1501 : decode cL_law 1501 = .ok (.iadd, 1) := dk_96 (dk_at dksL_law_53 15 rfl rfl)
theorem dL_law_1502 : decode cL_law 1502 = .ok (.iaload, 1) := dk_46 (dk_at dksL_law_53 16 rfl rfl)
theorem dL_law_1503 : decode cL_law 1503 = .ok (.aload_n 0, 1) := dk_42 (dk_at dksL_law_53 17 rfl rfl)
theorem dL_law_1504 : decode cL_law 1504 = .ok (.iload_n 3, 1) := dk_29 (dk_at dksL_law_53 18 rfl rfl)
theorem dL_law_1505 : decode cL_law 1505 = .ok (.iconst 2, 1) := dk_5 (dk_at dksL_law_53 19 rfl rfl)
theorem dL_law_1506 : decode cL_law 1506 = .ok (.iadd, 1) := dk_96 (dk_at dksL_law_53 20 rfl rfl)
theorem dL_law_1507 : decode cL_law 1507 = .ok (.iaload, 1) := dk_46 (dk_at dksL_law_53 21 rfl rfl)
theorem dL_law_1508 : decode cL_law 1508 = .ok (.invokevirtual 202, 3) := dk_182 0 202 (dk_at dksL_law_54 0 rfl rfl)
theorem dL_law_1511 : decode cL_law 1511 = .ok (.if_icmp .eq 622, 3) := dk_159 2 110 (dk_at dksL_law_54 3 rfl rfl)
theorem dL_law_1514 : decode cL_law 1514 = .ok (.iconst 0, 1) := dk_3 (dk_at dksL_law_54 6 rfl rfl)
theorem dL_law_1515 : decode cL_law 1515 = .ok (.ireturn, 1) := dk_172 (dk_at dksL_law_54 7 rfl rfl)
theorem dL_law_1516 : decode cL_law 1516 = .ok (.aload_n 1, 1) := dk_43 (dk_at dksL_law_54 8 rfl rfl)
theorem dL_law_1517 : decode cL_law 1517 = .ok (.aload_n 0, 1) := dk_42 (dk_at dksL_law_54 9 rfl rfl)
theorem dL_law_1518 : decode cL_law 1518 = .ok (.iload_n 3, 1) := dk_29 (dk_at dksL_law_54 10 rfl rfl)
theorem dL_law_1519 : decode cL_law 1519 = .ok (.iconst 1, 1) := dk_4 (dk_at dksL_law_54 11 rfl rfl)
theorem dL_law_1520 : decode cL_law 1520 = .ok (.iadd, 1) := dk_96 (dk_at dksL_law_54 12 rfl rfl)
theorem dL_law_1521 : decode cL_law 1521 = .ok (.iaload, 1) := dk_46 (dk_at dksL_law_54 13 rfl rfl)
theorem dL_law_1522 : decode cL_law 1522 = .ok (.invokevirtual 203, 3) := dk_182 0 203 (dk_at dksL_law_54 14 rfl rfl)
theorem dL_law_1525 : decode cL_law 1525 = .ok (.aload_n 2, 1) := dk_44 (dk_at dksL_law_54 17 rfl rfl)
theorem dL_law_1526 : decode cL_law 1526 = .ok (.aload_n 0, 1) := dk_42 (dk_at dksL_law_54 18 rfl rfl)
theorem dL_law_1527 : decode cL_law 1527 = .ok (.iload_n 3, 1) := dk_29 (dk_at dksL_law_54 19 rfl rfl)
theorem dL_law_1528 : decode cL_law 1528 = .ok (.iconst 1, 1) := dk_4 (dk_at dksL_law_54 20 rfl rfl)
theorem dL_law_1529 : decode cL_law 1529 = .ok (.iadd, 1) := dk_96 (dk_at dksL_law_54 21 rfl rfl)
theorem dL_law_1530 : decode cL_law 1530 = .ok (.iaload, 1) := dk_46 (dk_at dksL_law_54 22 rfl rfl)
theorem dL_law_1531 : decode cL_law 1531 = .ok (.invokevirtual 206, 3) := dk_182 0 206 (dk_at dksL_law_55 0 rfl rfl)
theorem dL_law_1534 : decode cL_law 1534 = .ok (.if_icmp .eq 599, 3) := dk_159 2 87 (dk_at dksL_law_55 3 rfl rfl)
theorem dL_law_1537 : decode cL_law 1537 = .ok (.iconst 0, 1) := dk_3 (dk_at dksL_law_55 6 rfl rfl)
theorem dL_law_1538 : decode cL_law 1538 = .ok (.ireturn, 1) := dk_172 (dk_at dksL_law_55 7 rfl rfl)
theorem dL_law_1539 : decode cL_law 1539 = .ok (.aload_n 1, 1) := dk_43 (dk_at dksL_law_55 8 rfl rfl)
theorem dL_law_1540 : decode cL_law 1540 = .ok (.aload_n 0, 1) := dk_42 (dk_at dksL_law_55 9 rfl rfl)
theorem dL_law_1541 : decode cL_law 1541 = .ok (.iload_n 3, 1) := dk_29 (dk_at dksL_law_55 10 rfl rfl)
theorem dL_law_1542 : decode cL_law 1542 = .ok (.iconst 1, 1) := dk_4 (dk_at dksL_law_55 11 rfl rfl)
theorem dL_law_1543 : decode cL_law 1543 = .ok (.iadd, 1) := dk_96 (dk_at dksL_law_55 12 rfl rfl)
theorem dL_law_1544 : decode cL_law 1544 = .ok (.iaload, 1) := dk_46 (dk_at dksL_law_55 13 rfl rfl)
theorem dL_law_1545 : decode cL_law 1545 = .ok (.aload_n 0, 1) := dk_42 (dk_at dksL_law_55 14 rfl rfl)
theorem dL_law_1546 : decode cL_law 1546 = .ok (.iload_n 3, 1) := dk_29 (dk_at dksL_law_55 15 rfl rfl)
theorem dL_law_1547 : decode cL_law 1547 = .ok (.iconst 2, 1) := dk_5 (dk_at dksL_law_55 16 rfl rfl)
theorem dL_law_1548 : decode cL_law 1548 = .ok (.iadd, 1) := dk_96 (dk_at dksL_law_55 17 rfl rfl)
theorem dL_law_1549 : decode cL_law 1549 = .ok (.iaload, 1) := dk_46 (dk_at dksL_law_55 18 rfl rfl)
theorem dL_law_1550 : decode cL_law 1550 = .ok (.invokevirtual 207, 3) := dk_182 0 207 (dk_at dksL_law_55 19 rfl rfl)
theorem dL_law_1553 : decode cL_law 1553 = .ok (.aload_n 2, 1) := dk_44 (dk_at dksL_law_55 22 rfl rfl)
theorem dL_law_1554 : decode cL_law 1554 = .ok (.aload_n 0, 1) := dk_42 (dk_at dksL_law_55 23 rfl rfl)
theorem dL_law_1555 : decode cL_law 1555 = .ok (.iload_n 3, 1) := dk_29 (dk_at dksL_law_56 0 rfl rfl)
theorem dL_law_1556 : decode cL_law 1556 = .ok (.iconst 1, 1) := dk_4 (dk_at dksL_law_56 1 rfl rfl)
theorem dL_law_1557 : decode cL_law 1557 = .ok (.iadd, 1) := dk_96 (dk_at dksL_law_56 2 rfl rfl)
theorem dL_law_1558 : decode cL_law 1558 = .ok (.iaload, 1) := dk_46 (dk_at dksL_law_56 3 rfl rfl)
theorem dL_law_1559 : decode cL_law 1559 = .ok (.aload_n 0, 1) := dk_42 (dk_at dksL_law_56 4 rfl rfl)
theorem dL_law_1560 : decode cL_law 1560 = .ok (.iload_n 3, 1) := dk_29 (dk_at dksL_law_56 5 rfl rfl)
theorem dL_law_1561 : decode cL_law 1561 = .ok (.iconst 2, 1) := dk_5 (dk_at dksL_law_56 6 rfl rfl)
theorem dL_law_1562 : decode cL_law 1562 = .ok (.iadd, 1) := dk_96 (dk_at dksL_law_56 7 rfl rfl)
theorem dL_law_1563 : decode cL_law 1563 = .ok (.iaload, 1) := dk_46 (dk_at dksL_law_56 8 rfl rfl)
theorem dL_law_1564 : decode cL_law 1564 = .ok (.invokevirtual 210, 3) := dk_182 0 210 (dk_at dksL_law_56 9 rfl rfl)
theorem dL_law_1567 : decode cL_law 1567 = .ok (.if_icmp .eq 566, 3) := dk_159 2 54 (dk_at dksL_law_56 12 rfl rfl)
theorem dL_law_1570 : decode cL_law 1570 = .ok (.iconst 0, 1) := dk_3 (dk_at dksL_law_56 15 rfl rfl)
theorem dL_law_1571 : decode cL_law 1571 = .ok (.ireturn, 1) := dk_172 (dk_at dksL_law_56 16 rfl rfl)
theorem dL_law_1572 : decode cL_law 1572 = .ok (.aload_n 1, 1) := dk_43 (dk_at dksL_law_56 17 rfl rfl)
theorem dL_law_1573 : decode cL_law 1573 = .ok (.aload_n 0, 1) := dk_42 (dk_at dksL_law_56 18 rfl rfl)
theorem dL_law_1574 : decode cL_law 1574 = .ok (.iload_n 3, 1) := dk_29 (dk_at dksL_law_56 19 rfl rfl)
theorem dL_law_1575 : decode cL_law 1575 = .ok (.iconst 1, 1) := dk_4 (dk_at dksL_law_56 20 rfl rfl)
theorem dL_law_1576 : decode cL_law 1576 = .ok (.iadd, 1) := dk_96 (dk_at dksL_law_56 21 rfl rfl)
theorem dL_law_1577 : decode cL_law 1577 = .ok (.iaload, 1) := dk_46 (dk_at dksL_law_56 22 rfl rfl)
theorem dL_law_1578 : decode cL_law 1578 = .ok (.aload_n 0, 1) := dk_42 (dk_at dksL_law_56 23 rfl rfl)
theorem dL_law_1579 : decode cL_law 1579 = .ok (.iload_n 3, 1) := dk_29 (dk_at dksL_law_57 0 rfl rfl)
theorem dL_law_1580 : decode cL_law 1580 = .ok (.iconst 2, 1) := dk_5 (dk_at dksL_law_57 1 rfl rfl)
theorem dL_law_1581 : decode cL_law 1581 = .ok (.iadd, 1) := dk_96 (dk_at dksL_law_57 2 rfl rfl)
theorem dL_law_1582 : decode cL_law 1582 = .ok (.iaload, 1) := dk_46 (dk_at dksL_law_57 3 rfl rfl)
theorem dL_law_1583 : decode cL_law 1583 = .ok (.invokevirtual 211, 3) := dk_182 0 211 (dk_at dksL_law_57 4 rfl rfl)
theorem dL_law_1586 : decode cL_law 1586 = .ok (.aload_n 2, 1) := dk_44 (dk_at dksL_law_57 7 rfl rfl)
theorem dL_law_1587 : decode cL_law 1587 = .ok (.aload_n 0, 1) := dk_42 (dk_at dksL_law_57 8 rfl rfl)
theorem dL_law_1588 : decode cL_law 1588 = .ok (.iload_n 3, 1) := dk_29 (dk_at dksL_law_57 9 rfl rfl)
theorem dL_law_1589 : decode cL_law 1589 = .ok (.iconst 1, 1) := dk_4 (dk_at dksL_law_57 10 rfl rfl)
theorem dL_law_1590 : decode cL_law 1590 = .ok (.iadd, 1) := dk_96 (dk_at dksL_law_57 11 rfl rfl)
theorem dL_law_1591 : decode cL_law 1591 = .ok (.iaload, 1) := dk_46 (dk_at dksL_law_57 12 rfl rfl)
theorem dL_law_1592 : decode cL_law 1592 = .ok (.aload_n 0, 1) := dk_42 (dk_at dksL_law_57 13 rfl rfl)
theorem dL_law_1593 : decode cL_law 1593 = .ok (.iload_n 3, 1) := dk_29 (dk_at dksL_law_57 14 rfl rfl)
theorem dL_law_1594 : decode cL_law 1594 = .ok (.iconst 2, 1) := dk_5 (dk_at dksL_law_57 15 rfl rfl)
theorem dL_law_1595 : decode cL_law 1595 = .ok (.iadd, 1) := dk_96 (dk_at dksL_law_57 16 rfl rfl)
theorem dL_law_1596 : decode cL_law 1596 = .ok (.iaload, 1) := dk_46 (dk_at dksL_law_57 17 rfl rfl)
theorem dL_law_1597 : decode cL_law 1597 = .ok (.invokevirtual 214, 3) := dk_182 0 214 (dk_at dksL_law_57 18 rfl rfl)
theorem dL_law_1600 : decode cL_law 1600 = .ok (.if_icmp .eq 533, 3) := dk_159 2 21 (dk_at dksL_law_57 21 rfl rfl)
theorem dL_law_1603 : decode cL_law 1603 = .ok (.iconst 0, 1) := dk_3 (dk_at dksL_law_58 0 rfl rfl)
theorem dL_law_1604 : decode cL_law 1604 = .ok (.ireturn, 1) := dk_172 (dk_at dksL_law_58 1 rfl rfl)
theorem dL_law_1605 : decode cL_law 1605 = .ok (.aload_n 1, 1) := dk_43 (dk_at dksL_law_58 2 rfl rfl)
theorem dL_law_1606 : decode cL_law 1606 = .ok (.aload_n 0, 1) := dk_42 (dk_at dksL_law_58 3 rfl rfl)
theorem dL_law_1607 : decode cL_law 1607 = .ok (.iload_n 3, 1) := dk_29 (dk_at dksL_law_58 4 rfl rfl)
theorem dL_law_1608 : decode cL_law 1608 = .ok (.iconst 1, 1) := dk_4 (dk_at dksL_law_58 5 rfl rfl)
theorem dL_law_1609 : decode cL_law 1609 = .ok (.iadd, 1) := dk_96 (dk_at dksL_law_58 6 rfl rfl)
theorem dL_law_1610 : decode cL_law 1610 = .ok (.iaload, 1) := dk_46 (dk_at dksL_law_58 7 rfl rfl)
theorem dL_law_1611 : decode cL_law 1611 = .ok (.invokevirtual 215, 3) := dk_182 0 215 (dk_at dksL_law_58 8 rfl rfl)
theorem dL_law_1614 : decode cL_law 1614 = .ok (.aload_n 2, 1) := dk_44 (dk_at dksL_law_58 11 rfl rfl)
theorem dL_law_1615 : decode cL_law 1615 = .ok (.aload_n 0, 1) := dk_42 (dk_at dksL_law_58 12 rfl rfl)
theorem dL_law_1616 : decode cL_law 1616 = .ok (.iload_n 3, 1) := dk_29 (dk_at dksL_law_58 13 rfl rfl)
theorem dL_law_1617 : decode cL_law 1617 = .ok (.iconst 1, 1) := dk_4 (dk_at dksL_law_58 14 rfl rfl)
theorem dL_law_1618 : decode cL_law 1618 = .ok (.iadd, 1) := dk_96 (dk_at dksL_law_58 15 rfl rfl)
theorem dL_law_1619 : decode cL_law 1619 = .ok (.iaload, 1) := dk_46 (dk_at dksL_law_58 16 rfl rfl)
theorem dL_law_1620 : decode cL_law 1620 = .ok (.invokevirtual 218, 3) := dk_182 0 218 (dk_at dksL_law_58 17 rfl rfl)
theorem dL_law_1623 : decode cL_law 1623 = .ok (.if_icmp .eq 510, 3) := dk_159 1 254 (dk_at dksL_law_58 20 rfl rfl)
theorem dL_law_1626 : decode cL_law 1626 = .ok (.iconst 0, 1) := dk_3 (dk_at dksL_law_58 23 rfl rfl)
theorem dL_law_1627 : decode cL_law 1627 = .ok (.ireturn, 1) := dk_172 (dk_at dksL_law_59 0 rfl rfl)
theorem dL_law_1628 : decode cL_law 1628 = .ok (.aload_n 1, 1) := dk_43 (dk_at dksL_law_59 1 rfl rfl)
theorem dL_law_1629 : decode cL_law 1629 = .ok (.invokevirtual 219, 3) := dk_182 0 219 (dk_at dksL_law_59 2 rfl rfl)
theorem dL_law_1632 : decode cL_law 1632 = .ok (.aload_n 2, 1) := dk_44 (dk_at dksL_law_59 5 rfl rfl)
theorem dL_law_1633 : decode cL_law 1633 = .ok (.invokevirtual 222, 3) := dk_182 0 222 (dk_at dksL_law_59 6 rfl rfl)
theorem dL_law_1636 : decode cL_law 1636 = .ok (.if_icmp .eq 497, 3) := dk_159 1 241 (dk_at dksL_law_59 9 rfl rfl)
theorem dL_law_1639 : decode cL_law 1639 = .ok (.iconst 0, 1) := dk_3 (dk_at dksL_law_59 12 rfl rfl)
theorem dL_law_1640 : decode cL_law 1640 = .ok (.ireturn, 1) := dk_172 (dk_at dksL_law_59 13 rfl rfl)
theorem dL_law_1641 : decode cL_law 1641 = .ok (.aload_n 1, 1) := dk_43 (dk_at dksL_law_59 14 rfl rfl)
theorem dL_law_1642 : decode cL_law 1642 = .ok (.aload_n 0, 1) := dk_42 (dk_at dksL_law_59 15 rfl rfl)
theorem dL_law_1643 : decode cL_law 1643 = .ok (.iload_n 3, 1) := dk_29 (dk_at dksL_law_59 16 rfl rfl)
theorem dL_law_1644 : decode cL_law 1644 = .ok (.iconst 1, 1) := dk_4 (dk_at dksL_law_59 17 rfl rfl)
theorem dL_law_1645 : decode cL_law 1645 = .ok (.iadd, 1) := dk_96 (dk_at dksL_law_59 18 rfl rfl)
theorem dL_law_1646 : decode cL_law 1646 = .ok (.iaload, 1) := dk_46 (dk_at dksL_law_59 19 rfl rfl)
theorem dL_law_1647 : decode cL_law 1647 = .ok (.invokevirtual 223, 3) := dk_182 0 223 (dk_at dksL_law_59 20 rfl rfl)
theorem dL_law_1650 : decode cL_law 1650 = .ok (.aload_n 2, 1) := dk_44 (dk_at dksL_law_59 23 rfl rfl)
theorem dL_law_1651 : decode cL_law 1651 = .ok (.aload_n 0, 1) := dk_42 (dk_at dksL_law_60 0 rfl rfl)
theorem dL_law_1652 : decode cL_law 1652 = .ok (.iload_n 3, 1) := dk_29 (dk_at dksL_law_60 1 rfl rfl)
theorem dL_law_1653 : decode cL_law 1653 = .ok (.iconst 1, 1) := dk_4 (dk_at dksL_law_60 2 rfl rfl)
theorem dL_law_1654 : decode cL_law 1654 = .ok (.iadd, 1) := dk_96 (dk_at dksL_law_60 3 rfl rfl)
theorem dL_law_1655 : decode cL_law 1655 = .ok (.iaload, 1) := dk_46 (dk_at dksL_law_60 4 rfl rfl)
theorem dL_law_1656 : decode cL_law 1656 = .ok (.invokevirtual 226, 3) := dk_182 0 226 (dk_at dksL_law_60 5 rfl rfl)
theorem dL_law_1659 : decode cL_law 1659 = .ok (.if_icmp .eq 474, 3) := dk_159 1 218 (dk_at dksL_law_60 8 rfl rfl)
theorem dL_law_1662 : decode cL_law 1662 = .ok (.iconst 0, 1) := dk_3 (dk_at dksL_law_60 11 rfl rfl)
theorem dL_law_1663 : decode cL_law 1663 = .ok (.ireturn, 1) := dk_172 (dk_at dksL_law_60 12 rfl rfl)
theorem dL_law_1664 : decode cL_law 1664 = .ok (.aload_n 1, 1) := dk_43 (dk_at dksL_law_60 13 rfl rfl)
theorem dL_law_1665 : decode cL_law 1665 = .ok (.aload_n 0, 1) := dk_42 (dk_at dksL_law_60 14 rfl rfl)
theorem dL_law_1666 : decode cL_law 1666 = .ok (.iload_n 3, 1) := dk_29 (dk_at dksL_law_60 15 rfl rfl)
theorem dL_law_1667 : decode cL_law 1667 = .ok (.iconst 1, 1) := dk_4 (dk_at dksL_law_60 16 rfl rfl)
theorem dL_law_1668 : decode cL_law 1668 = .ok (.iadd, 1) := dk_96 (dk_at dksL_law_60 17 rfl rfl)
theorem dL_law_1669 : decode cL_law 1669 = .ok (.iaload, 1) := dk_46 (dk_at dksL_law_60 18 rfl rfl)
theorem dL_law_1670 : decode cL_law 1670 = .ok (.invokevirtual 227, 3) := dk_182 0 227 (dk_at dksL_law_60 19 rfl rfl)
theorem dL_law_1673 : decode cL_law 1673 = .ok (.aload_n 2, 1) := dk_44 (dk_at dksL_law_60 22 rfl rfl)
theorem dL_law_1674 : decode cL_law 1674 = .ok (.aload_n 0, 1) := dk_42 (dk_at dksL_law_60 23 rfl rfl)
theorem dL_law_1675 : decode cL_law 1675 = .ok (.iload_n 3, 1) := dk_29 (dk_at dksL_law_61 0 rfl rfl)
theorem dL_law_1676 : decode cL_law 1676 = .ok (.iconst 1, 1) := dk_4 (dk_at dksL_law_61 1 rfl rfl)
theorem dL_law_1677 : decode cL_law 1677 = .ok (.iadd, 1) := dk_96 (dk_at dksL_law_61 2 rfl rfl)
theorem dL_law_1678 : decode cL_law 1678 = .ok (.iaload, 1) := dk_46 (dk_at dksL_law_61 3 rfl rfl)
theorem dL_law_1679 : decode cL_law 1679 = .ok (.invokevirtual 230, 3) := dk_182 0 230 (dk_at dksL_law_61 4 rfl rfl)
theorem dL_law_1682 : decode cL_law 1682 = .ok (.if_icmp .eq 451, 3) := dk_159 1 195 (dk_at dksL_law_61 7 rfl rfl)
theorem dL_law_1685 : decode cL_law 1685 = .ok (.iconst 0, 1) := dk_3 (dk_at dksL_law_61 10 rfl rfl)
theorem dL_law_1686 : decode cL_law 1686 = .ok (.ireturn, 1) := dk_172 (dk_at dksL_law_61 11 rfl rfl)
theorem dL_law_1687 : decode cL_law 1687 = .ok (.aload_n 1, 1) := dk_43 (dk_at dksL_law_61 12 rfl rfl)
theorem dL_law_1688 : decode cL_law 1688 = .ok (.aload_n 0, 1) := dk_42 (dk_at dksL_law_61 13 rfl rfl)
theorem dL_law_1689 : decode cL_law 1689 = .ok (.iload_n 3, 1) := dk_29 (dk_at dksL_law_61 14 rfl rfl)
theorem dL_law_1690 : decode cL_law 1690 = .ok (.iconst 1, 1) := dk_4 (dk_at dksL_law_61 15 rfl rfl)
theorem dL_law_1691 : decode cL_law 1691 = .ok (.iadd, 1) := dk_96 (dk_at dksL_law_61 16 rfl rfl)
theorem dL_law_1692 : decode cL_law 1692 = .ok (.iaload, 1) := dk_46 (dk_at dksL_law_61 17 rfl rfl)
theorem dL_law_1693 : decode cL_law 1693 = .ok (.invokevirtual 231, 3) := dk_182 0 231 (dk_at dksL_law_61 18 rfl rfl)
theorem dL_law_1696 : decode cL_law 1696 = .ok (.aload_n 2, 1) := dk_44 (dk_at dksL_law_61 21 rfl rfl)
theorem dL_law_1697 : decode cL_law 1697 = .ok (.aload_n 0, 1) := dk_42 (dk_at dksL_law_61 22 rfl rfl)
theorem dL_law_1698 : decode cL_law 1698 = .ok (.iload_n 3, 1) := dk_29 (dk_at dksL_law_61 23 rfl rfl)
theorem dL_law_1699 : decode cL_law 1699 = .ok (.iconst 1, 1) := dk_4 (dk_at dksL_law_62 0 rfl rfl)
theorem dL_law_1700 : decode cL_law 1700 = .ok (.iadd, 1) := dk_96 (dk_at dksL_law_62 1 rfl rfl)
theorem dL_law_1701 : decode cL_law 1701 = .ok (.iaload, 1) := dk_46 (dk_at dksL_law_62 2 rfl rfl)
theorem dL_law_1702 : decode cL_law 1702 = .ok (.invokevirtual 234, 3) := dk_182 0 234 (dk_at dksL_law_62 3 rfl rfl)
theorem dL_law_1705 : decode cL_law 1705 = .ok (.if_icmp .eq 428, 3) := dk_159 1 172 (dk_at dksL_law_62 6 rfl rfl)
theorem dL_law_1708 : decode cL_law 1708 = .ok (.iconst 0, 1) := dk_3 (dk_at dksL_law_62 9 rfl rfl)
theorem dL_law_1709 : decode cL_law 1709 = .ok (.ireturn, 1) := dk_172 (dk_at dksL_law_62 10 rfl rfl)
theorem dL_law_1710 : decode cL_law 1710 = .ok (.aload_n 1, 1) := dk_43 (dk_at dksL_law_62 11 rfl rfl)
theorem dL_law_1711 : decode cL_law 1711 = .ok (.aload_n 0, 1) := dk_42 (dk_at dksL_law_62 12 rfl rfl)
theorem dL_law_1712 : decode cL_law 1712 = .ok (.iload_n 3, 1) := dk_29 (dk_at dksL_law_62 13 rfl rfl)
theorem dL_law_1713 : decode cL_law 1713 = .ok (.iconst 1, 1) := dk_4 (dk_at dksL_law_62 14 rfl rfl)
theorem dL_law_1714 : decode cL_law 1714 = .ok (.iadd, 1) := dk_96 (dk_at dksL_law_62 15 rfl rfl)
theorem dL_law_1715 : decode cL_law 1715 = .ok (.iaload, 1) := dk_46 (dk_at dksL_law_62 16 rfl rfl)
theorem dL_law_1716 : decode cL_law 1716 = .ok (.aload_n 0, 1) := dk_42 (dk_at dksL_law_62 17 rfl rfl)
theorem dL_law_1717 : decode cL_law 1717 = .ok (.iload_n 3, 1) := dk_29 (dk_at dksL_law_62 18 rfl rfl)
theorem dL_law_1718 : decode cL_law 1718 = .ok (.iconst 2, 1) := dk_5 (dk_at dksL_law_62 19 rfl rfl)
theorem dL_law_1719 : decode cL_law 1719 = .ok (.iadd, 1) := dk_96 (dk_at dksL_law_62 20 rfl rfl)
theorem dL_law_1720 : decode cL_law 1720 = .ok (.iaload, 1) := dk_46 (dk_at dksL_law_62 21 rfl rfl)
theorem dL_law_1721 : decode cL_law 1721 = .ok (.invokevirtual 235, 3) := dk_182 0 235 (dk_at dksL_law_63 0 rfl rfl)
theorem dL_law_1724 : decode cL_law 1724 = .ok (.aload_n 2, 1) := dk_44 (dk_at dksL_law_63 3 rfl rfl)
theorem dL_law_1725 : decode cL_law 1725 = .ok (.aload_n 0, 1) := dk_42 (dk_at dksL_law_63 4 rfl rfl)
theorem dL_law_1726 : decode cL_law 1726 = .ok (.iload_n 3, 1) := dk_29 (dk_at dksL_law_63 5 rfl rfl)
theorem dL_law_1727 : decode cL_law 1727 = .ok (.iconst 1, 1) := dk_4 (dk_at dksL_law_63 6 rfl rfl)
theorem dL_law_1728 : decode cL_law 1728 = .ok (.iadd, 1) := dk_96 (dk_at dksL_law_63 7 rfl rfl)
theorem dL_law_1729 : decode cL_law 1729 = .ok (.iaload, 1) := dk_46 (dk_at dksL_law_63 8 rfl rfl)
theorem dL_law_1730 : decode cL_law 1730 = .ok (.aload_n 0, 1) := dk_42 (dk_at dksL_law_63 9 rfl rfl)
theorem dL_law_1731 : decode cL_law 1731 = .ok (.iload_n 3, 1) := dk_29 (dk_at dksL_law_63 10 rfl rfl)
theorem dL_law_1732 : decode cL_law 1732 = .ok (.iconst 2, 1) := dk_5 (dk_at dksL_law_63 11 rfl rfl)
theorem dL_law_1733 : decode cL_law 1733 = .ok (.iadd, 1) := dk_96 (dk_at dksL_law_63 12 rfl rfl)
theorem dL_law_1734 : decode cL_law 1734 = .ok (.iaload, 1) := dk_46 (dk_at dksL_law_63 13 rfl rfl)
theorem dL_law_1735 : decode cL_law 1735 = .ok (.invokevirtual 238, 3) := dk_182 0 238 (dk_at dksL_law_63 14 rfl rfl)
theorem dL_law_1738 : decode cL_law 1738 = .ok (.if_icmp .eq 395, 3) := dk_159 1 139 (dk_at dksL_law_63 17 rfl rfl)
theorem dL_law_1741 : decode cL_law 1741 = .ok (.iconst 0, 1) := dk_3 (dk_at dksL_law_63 20 rfl rfl)
theorem dL_law_1742 : decode cL_law 1742 = .ok (.ireturn, 1) := dk_172 (dk_at dksL_law_63 21 rfl rfl)
theorem dL_law_1743 : decode cL_law 1743 = .ok (.aload_n 1, 1) := dk_43 (dk_at dksL_law_63 22 rfl rfl)
theorem dL_law_1744 : decode cL_law 1744 = .ok (.aload_n 0, 1) := dk_42 (dk_at dksL_law_63 23 rfl rfl)
theorem dL_law_1745 : decode cL_law 1745 = .ok (.iload_n 3, 1) := dk_29 (dk_at dksL_law_64 0 rfl rfl)
theorem dL_law_1746 : decode cL_law 1746 = .ok (.iconst 1, 1) := dk_4 (dk_at dksL_law_64 1 rfl rfl)
theorem dL_law_1747 : decode cL_law 1747 = .ok (.iadd, 1) := dk_96 (dk_at dksL_law_64 2 rfl rfl)
theorem dL_law_1748 : decode cL_law 1748 = .ok (.iaload, 1) := dk_46 (dk_at dksL_law_64 3 rfl rfl)
theorem dL_law_1749 : decode cL_law 1749 = .ok (.aload_n 0, 1) := dk_42 (dk_at dksL_law_64 4 rfl rfl)
theorem dL_law_1750 : decode cL_law 1750 = .ok (.iload_n 3, 1) := dk_29 (dk_at dksL_law_64 5 rfl rfl)
theorem dL_law_1751 : decode cL_law 1751 = .ok (.iconst 2, 1) := dk_5 (dk_at dksL_law_64 6 rfl rfl)
theorem dL_law_1752 : decode cL_law 1752 = .ok (.iadd, 1) := dk_96 (dk_at dksL_law_64 7 rfl rfl)
theorem dL_law_1753 : decode cL_law 1753 = .ok (.iaload, 1) := dk_46 (dk_at dksL_law_64 8 rfl rfl)
theorem dL_law_1754 : decode cL_law 1754 = .ok (.aload_n 0, 1) := dk_42 (dk_at dksL_law_64 9 rfl rfl)
theorem dL_law_1755 : decode cL_law 1755 = .ok (.iload_n 3, 1) := dk_29 (dk_at dksL_law_64 10 rfl rfl)
theorem dL_law_1756 : decode cL_law 1756 = .ok (.iconst 3, 1) := dk_6 (dk_at dksL_law_64 11 rfl rfl)
theorem dL_law_1757 : decode cL_law 1757 = .ok (.iadd, 1) := dk_96 (dk_at dksL_law_64 12 rfl rfl)
theorem dL_law_1758 : decode cL_law 1758 = .ok (.iaload, 1) := dk_46 (dk_at dksL_law_64 13 rfl rfl)
theorem dL_law_1759 : decode cL_law 1759 = .ok (.invokevirtual 239, 3) := dk_182 0 239 (dk_at dksL_law_64 14 rfl rfl)
theorem dL_law_1762 : decode cL_law 1762 = .ok (.aload_n 2, 1) := dk_44 (dk_at dksL_law_64 17 rfl rfl)
theorem dL_law_1763 : decode cL_law 1763 = .ok (.aload_n 0, 1) := dk_42 (dk_at dksL_law_64 18 rfl rfl)
theorem dL_law_1764 : decode cL_law 1764 = .ok (.iload_n 3, 1) := dk_29 (dk_at dksL_law_64 19 rfl rfl)
theorem dL_law_1765 : decode cL_law 1765 = .ok (.iconst 1, 1) := dk_4 (dk_at dksL_law_64 20 rfl rfl)
theorem dL_law_1766 : decode cL_law 1766 = .ok (.iadd, 1) := dk_96 (dk_at dksL_law_64 21 rfl rfl)
theorem dL_law_1767 : decode cL_law 1767 = .ok (.iaload, 1) := dk_46 (dk_at dksL_law_64 22 rfl rfl)
theorem dL_law_1768 : decode cL_law 1768 = .ok (.aload_n 0, 1) := dk_42 (dk_at dksL_law_64 23 rfl rfl)
theorem dL_law_1769 : decode cL_law 1769 = .ok (.iload_n 3, 1) := dk_29 (dk_at dksL_law_65 0 rfl rfl)
theorem dL_law_1770 : decode cL_law 1770 = .ok (.iconst 2, 1) := dk_5 (dk_at dksL_law_65 1 rfl rfl)
theorem dL_law_1771 : decode cL_law 1771 = .ok (.iadd, 1) := dk_96 (dk_at dksL_law_65 2 rfl rfl)
theorem dL_law_1772 : decode cL_law 1772 = .ok (.iaload, 1) := dk_46 (dk_at dksL_law_65 3 rfl rfl)
theorem dL_law_1773 : decode cL_law 1773 = .ok (.aload_n 0, 1) := dk_42 (dk_at dksL_law_65 4 rfl rfl)
theorem dL_law_1774 : decode cL_law 1774 = .ok (.iload_n 3, 1) := dk_29 (dk_at dksL_law_65 5 rfl rfl)
theorem dL_law_1775 : decode cL_law 1775 = .ok (.iconst 3, 1) := dk_6 (dk_at dksL_law_65 6 rfl rfl)
theorem dL_law_1776 : decode cL_law 1776 = .ok (.iadd, 1) := dk_96 (dk_at dksL_law_65 7 rfl rfl)
theorem dL_law_1777 : decode cL_law 1777 = .ok (.iaload, 1) := dk_46 (dk_at dksL_law_65 8 rfl rfl)
theorem dL_law_1778 : decode cL_law 1778 = .ok (.invokevirtual 242, 3) := dk_182 0 242 (dk_at dksL_law_65 9 rfl rfl)
theorem dL_law_1781 : decode cL_law 1781 = .ok (.if_icmp .eq 352, 3) := dk_159 1 96 (dk_at dksL_law_65 12 rfl rfl)
theorem dL_law_1784 : decode cL_law 1784 = .ok (.iconst 0, 1) := dk_3 (dk_at dksL_law_65 15 rfl rfl)
theorem dL_law_1785 : decode cL_law 1785 = .ok (.ireturn, 1) := dk_172 (dk_at dksL_law_65 16 rfl rfl)
theorem dL_law_1786 : decode cL_law 1786 = .ok (.aload_n 1, 1) := dk_43 (dk_at dksL_law_65 17 rfl rfl)
theorem dL_law_1787 : decode cL_law 1787 = .ok (.aload_n 0, 1) := dk_42 (dk_at dksL_law_65 18 rfl rfl)
theorem dL_law_1788 : decode cL_law 1788 = .ok (.iload_n 3, 1) := dk_29 (dk_at dksL_law_65 19 rfl rfl)
theorem dL_law_1789 : decode cL_law 1789 = .ok (.iconst 1, 1) := dk_4 (dk_at dksL_law_65 20 rfl rfl)
theorem dL_law_1790 : decode cL_law 1790 = .ok (.iadd, 1) := dk_96 (dk_at dksL_law_65 21 rfl rfl)
theorem dL_law_1791 : decode cL_law 1791 = .ok (.iaload, 1) := dk_46 (dk_at dksL_law_65 22 rfl rfl)
theorem dL_law_1792 : decode cL_law 1792 = .ok (.aload_n 0, 1) := dk_42 (dk_at dksL_law_65 23 rfl rfl)
theorem dL_law_1793 : decode cL_law 1793 = .ok (.iload_n 3, 1) := dk_29 (dk_at dksL_law_66 0 rfl rfl)
theorem dL_law_1794 : decode cL_law 1794 = .ok (.iconst 2, 1) := dk_5 (dk_at dksL_law_66 1 rfl rfl)
theorem dL_law_1795 : decode cL_law 1795 = .ok (.iadd, 1) := dk_96 (dk_at dksL_law_66 2 rfl rfl)
theorem dL_law_1796 : decode cL_law 1796 = .ok (.iaload, 1) := dk_46 (dk_at dksL_law_66 3 rfl rfl)
theorem dL_law_1797 : decode cL_law 1797 = .ok (.invokevirtual 243, 3) := dk_182 0 243 (dk_at dksL_law_66 4 rfl rfl)
theorem dL_law_1800 : decode cL_law 1800 = .ok (.aload_n 2, 1) := dk_44 (dk_at dksL_law_66 7 rfl rfl)
theorem dL_law_1801 : decode cL_law 1801 = .ok (.aload_n 0, 1) := dk_42 (dk_at dksL_law_66 8 rfl rfl)
theorem dL_law_1802 : decode cL_law 1802 = .ok (.iload_n 3, 1) := dk_29 (dk_at dksL_law_66 9 rfl rfl)
theorem dL_law_1803 : decode cL_law 1803 = .ok (.iconst 1, 1) := dk_4 (dk_at dksL_law_66 10 rfl rfl)
theorem dL_law_1804 : decode cL_law 1804 = .ok (.iadd, 1) := dk_96 (dk_at dksL_law_66 11 rfl rfl)
theorem dL_law_1805 : decode cL_law 1805 = .ok (.iaload, 1) := dk_46 (dk_at dksL_law_66 12 rfl rfl)
theorem dL_law_1806 : decode cL_law 1806 = .ok (.aload_n 0, 1) := dk_42 (dk_at dksL_law_66 13 rfl rfl)
theorem dL_law_1807 : decode cL_law 1807 = .ok (.iload_n 3, 1) := dk_29 (dk_at dksL_law_66 14 rfl rfl)
theorem dL_law_1808 : decode cL_law 1808 = .ok (.iconst 2, 1) := dk_5 (dk_at dksL_law_66 15 rfl rfl)
theorem dL_law_1809 : decode cL_law 1809 = .ok (.iadd, 1) := dk_96 (dk_at dksL_law_66 16 rfl rfl)
theorem dL_law_1810 : decode cL_law 1810 = .ok (.iaload, 1) := dk_46 (dk_at dksL_law_66 17 rfl rfl)
theorem dL_law_1811 : decode cL_law 1811 = .ok (.invokevirtual 246, 3) := dk_182 0 246 (dk_at dksL_law_66 18 rfl rfl)
theorem dL_law_1814 : decode cL_law 1814 = .ok (.if_icmp .eq 319, 3) := dk_159 1 63 (dk_at dksL_law_66 21 rfl rfl)
theorem dL_law_1817 : decode cL_law 1817 = .ok (.iconst 0, 1) := dk_3 (dk_at dksL_law_67 0 rfl rfl)
theorem dL_law_1818 : decode cL_law 1818 = .ok (.ireturn, 1) := dk_172 (dk_at dksL_law_67 1 rfl rfl)
theorem dL_law_1819 : decode cL_law 1819 = .ok (.aload_n 1, 1) := dk_43 (dk_at dksL_law_67 2 rfl rfl)
theorem dL_law_1820 : decode cL_law 1820 = .ok (.aload_n 0, 1) := dk_42 (dk_at dksL_law_67 3 rfl rfl)
theorem dL_law_1821 : decode cL_law 1821 = .ok (.iload_n 3, 1) := dk_29 (dk_at dksL_law_67 4 rfl rfl)
theorem dL_law_1822 : decode cL_law 1822 = .ok (.iconst 1, 1) := dk_4 (dk_at dksL_law_67 5 rfl rfl)
theorem dL_law_1823 : decode cL_law 1823 = .ok (.iadd, 1) := dk_96 (dk_at dksL_law_67 6 rfl rfl)
theorem dL_law_1824 : decode cL_law 1824 = .ok (.iaload, 1) := dk_46 (dk_at dksL_law_67 7 rfl rfl)
theorem dL_law_1825 : decode cL_law 1825 = .ok (.aload_n 0, 1) := dk_42 (dk_at dksL_law_67 8 rfl rfl)
theorem dL_law_1826 : decode cL_law 1826 = .ok (.iload_n 3, 1) := dk_29 (dk_at dksL_law_67 9 rfl rfl)
theorem dL_law_1827 : decode cL_law 1827 = .ok (.iconst 2, 1) := dk_5 (dk_at dksL_law_67 10 rfl rfl)
theorem dL_law_1828 : decode cL_law 1828 = .ok (.iadd, 1) := dk_96 (dk_at dksL_law_67 11 rfl rfl)
theorem dL_law_1829 : decode cL_law 1829 = .ok (.iaload, 1) := dk_46 (dk_at dksL_law_67 12 rfl rfl)
theorem dL_law_1830 : decode cL_law 1830 = .ok (.invokevirtual 247, 3) := dk_182 0 247 (dk_at dksL_law_67 13 rfl rfl)
theorem dL_law_1833 : decode cL_law 1833 = .ok (.aload_n 2, 1) := dk_44 (dk_at dksL_law_67 16 rfl rfl)
theorem dL_law_1834 : decode cL_law 1834 = .ok (.aload_n 0, 1) := dk_42 (dk_at dksL_law_67 17 rfl rfl)
theorem dL_law_1835 : decode cL_law 1835 = .ok (.iload_n 3, 1) := dk_29 (dk_at dksL_law_67 18 rfl rfl)
theorem dL_law_1836 : decode cL_law 1836 = .ok (.iconst 1, 1) := dk_4 (dk_at dksL_law_67 19 rfl rfl)
theorem dL_law_1837 : decode cL_law 1837 = .ok (.iadd, 1) := dk_96 (dk_at dksL_law_67 20 rfl rfl)
theorem dL_law_1838 : decode cL_law 1838 = .ok (.iaload, 1) := dk_46 (dk_at dksL_law_67 21 rfl rfl)
theorem dL_law_1839 : decode cL_law 1839 = .ok (.aload_n 0, 1) := dk_42 (dk_at dksL_law_67 22 rfl rfl)
theorem dL_law_1840 : decode cL_law 1840 = .ok (.iload_n 3, 1) := dk_29 (dk_at dksL_law_67 23 rfl rfl)
theorem dL_law_1841 : decode cL_law 1841 = .ok (.iconst 2, 1) := dk_5 (dk_at dksL_law_68 0 rfl rfl)
theorem dL_law_1842 : decode cL_law 1842 = .ok (.iadd, 1) := dk_96 (dk_at dksL_law_68 1 rfl rfl)
theorem dL_law_1843 : decode cL_law 1843 = .ok (.iaload, 1) := dk_46 (dk_at dksL_law_68 2 rfl rfl)
theorem dL_law_1844 : decode cL_law 1844 = .ok (.invokevirtual 250, 3) := dk_182 0 250 (dk_at dksL_law_68 3 rfl rfl)
theorem dL_law_1847 : decode cL_law 1847 = .ok (.if_icmp .eq 286, 3) := dk_159 1 30 (dk_at dksL_law_68 6 rfl rfl)
theorem dL_law_1850 : decode cL_law 1850 = .ok (.iconst 0, 1) := dk_3 (dk_at dksL_law_68 9 rfl rfl)
theorem dL_law_1851 : decode cL_law 1851 = .ok (.ireturn, 1) := dk_172 (dk_at dksL_law_68 10 rfl rfl)
theorem dL_law_1852 : decode cL_law 1852 = .ok (.aload_n 1, 1) := dk_43 (dk_at dksL_law_68 11 rfl rfl)
theorem dL_law_1853 : decode cL_law 1853 = .ok (.aload_n 0, 1) := dk_42 (dk_at dksL_law_68 12 rfl rfl)
theorem dL_law_1854 : decode cL_law 1854 = .ok (.iload_n 3, 1) := dk_29 (dk_at dksL_law_68 13 rfl rfl)
theorem dL_law_1855 : decode cL_law 1855 = .ok (.iconst 1, 1) := dk_4 (dk_at dksL_law_68 14 rfl rfl)
theorem dL_law_1856 : decode cL_law 1856 = .ok (.iadd, 1) := dk_96 (dk_at dksL_law_68 15 rfl rfl)
theorem dL_law_1857 : decode cL_law 1857 = .ok (.iaload, 1) := dk_46 (dk_at dksL_law_68 16 rfl rfl)
theorem dL_law_1858 : decode cL_law 1858 = .ok (.aload_n 0, 1) := dk_42 (dk_at dksL_law_68 17 rfl rfl)
theorem dL_law_1859 : decode cL_law 1859 = .ok (.iload_n 3, 1) := dk_29 (dk_at dksL_law_68 18 rfl rfl)
theorem dL_law_1860 : decode cL_law 1860 = .ok (.iconst 2, 1) := dk_5 (dk_at dksL_law_68 19 rfl rfl)
theorem dL_law_1861 : decode cL_law 1861 = .ok (.iadd, 1) := dk_96 (dk_at dksL_law_68 20 rfl rfl)
theorem dL_law_1862 : decode cL_law 1862 = .ok (.iaload, 1) := dk_46 (dk_at dksL_law_68 21 rfl rfl)
theorem dL_law_1863 : decode cL_law 1863 = .ok (.invokevirtual 251, 3) := dk_182 0 251 (dk_at dksL_law_69 0 rfl rfl)
theorem dL_law_1866 : decode cL_law 1866 = .ok (.aload_n 2, 1) := dk_44 (dk_at dksL_law_69 3 rfl rfl)
theorem dL_law_1867 : decode cL_law 1867 = .ok (.aload_n 0, 1) := dk_42 (dk_at dksL_law_69 4 rfl rfl)
theorem dL_law_1868 : decode cL_law 1868 = .ok (.iload_n 3, 1) := dk_29 (dk_at dksL_law_69 5 rfl rfl)
theorem dL_law_1869 : decode cL_law 1869 = .ok (.iconst 1, 1) := dk_4 (dk_at dksL_law_69 6 rfl rfl)
theorem dL_law_1870 : decode cL_law 1870 = .ok (.iadd, 1) := dk_96 (dk_at dksL_law_69 7 rfl rfl)
theorem dL_law_1871 : decode cL_law 1871 = .ok (.iaload, 1) := dk_46 (dk_at dksL_law_69 8 rfl rfl)
theorem dL_law_1872 : decode cL_law 1872 = .ok (.aload_n 0, 1) := dk_42 (dk_at dksL_law_69 9 rfl rfl)
theorem dL_law_1873 : decode cL_law 1873 = .ok (.iload_n 3, 1) := dk_29 (dk_at dksL_law_69 10 rfl rfl)
theorem dL_law_1874 : decode cL_law 1874 = .ok (.iconst 2, 1) := dk_5 (dk_at dksL_law_69 11 rfl rfl)
theorem dL_law_1875 : decode cL_law 1875 = .ok (.iadd, 1) := dk_96 (dk_at dksL_law_69 12 rfl rfl)
theorem dL_law_1876 : decode cL_law 1876 = .ok (.iaload, 1) := dk_46 (dk_at dksL_law_69 13 rfl rfl)
theorem dL_law_1877 : decode cL_law 1877 = .ok (.invokevirtual 254, 3) := dk_182 0 254 (dk_at dksL_law_69 14 rfl rfl)
theorem dL_law_1880 : decode cL_law 1880 = .ok (.if_icmp .eq 253, 3) := dk_159 0 253 (dk_at dksL_law_69 17 rfl rfl)
theorem dL_law_1883 : decode cL_law 1883 = .ok (.iconst 0, 1) := dk_3 (dk_at dksL_law_69 20 rfl rfl)
theorem dL_law_1884 : decode cL_law 1884 = .ok (.ireturn, 1) := dk_172 (dk_at dksL_law_69 21 rfl rfl)
theorem dL_law_1885 : decode cL_law 1885 = .ok (.aload_n 1, 1) := dk_43 (dk_at dksL_law_69 22 rfl rfl)
theorem dL_law_1886 : decode cL_law 1886 = .ok (.aload_n 0, 1) := dk_42 (dk_at dksL_law_69 23 rfl rfl)
theorem dL_law_1887 : decode cL_law 1887 = .ok (.iload_n 3, 1) := dk_29 (dk_at dksL_law_70 0 rfl rfl)
theorem dL_law_1888 : decode cL_law 1888 = .ok (.iconst 1, 1) := dk_4 (dk_at dksL_law_70 1 rfl rfl)
theorem dL_law_1889 : decode cL_law 1889 = .ok (.iadd, 1) := dk_96 (dk_at dksL_law_70 2 rfl rfl)
theorem dL_law_1890 : decode cL_law 1890 = .ok (.iaload, 1) := dk_46 (dk_at dksL_law_70 3 rfl rfl)
theorem dL_law_1891 : decode cL_law 1891 = .ok (.invokevirtual 255, 3) := dk_182 0 255 (dk_at dksL_law_70 4 rfl rfl)
theorem dL_law_1894 : decode cL_law 1894 = .ok (.aload_n 2, 1) := dk_44 (dk_at dksL_law_70 7 rfl rfl)
theorem dL_law_1895 : decode cL_law 1895 = .ok (.aload_n 0, 1) := dk_42 (dk_at dksL_law_70 8 rfl rfl)
theorem dL_law_1896 : decode cL_law 1896 = .ok (.iload_n 3, 1) := dk_29 (dk_at dksL_law_70 9 rfl rfl)
theorem dL_law_1897 : decode cL_law 1897 = .ok (.iconst 1, 1) := dk_4 (dk_at dksL_law_70 10 rfl rfl)
theorem dL_law_1898 : decode cL_law 1898 = .ok (.iadd, 1) := dk_96 (dk_at dksL_law_70 11 rfl rfl)
theorem dL_law_1899 : decode cL_law 1899 = .ok (.iaload, 1) := dk_46 (dk_at dksL_law_70 12 rfl rfl)
theorem dL_law_1900 : decode cL_law 1900 = .ok (.invokevirtual 258, 3) := dk_182 1 2 (dk_at dksL_law_70 13 rfl rfl)
theorem dL_law_1903 : decode cL_law 1903 = .ok (.if_icmp .eq 230, 3) := dk_159 0 230 (dk_at dksL_law_70 16 rfl rfl)
theorem dL_law_1906 : decode cL_law 1906 = .ok (.iconst 0, 1) := dk_3 (dk_at dksL_law_70 19 rfl rfl)
theorem dL_law_1907 : decode cL_law 1907 = .ok (.ireturn, 1) := dk_172 (dk_at dksL_law_70 20 rfl rfl)
theorem dL_law_1908 : decode cL_law 1908 = .ok (.aload_n 1, 1) := dk_43 (dk_at dksL_law_70 21 rfl rfl)
theorem dL_law_1909 : decode cL_law 1909 = .ok (.aload_n 0, 1) := dk_42 (dk_at dksL_law_70 22 rfl rfl)
theorem dL_law_1910 : decode cL_law 1910 = .ok (.iload_n 3, 1) := dk_29 (dk_at dksL_law_70 23 rfl rfl)
theorem dL_law_1911 : decode cL_law 1911 = .ok (.iconst 1, 1) := dk_4 (dk_at dksL_law_71 0 rfl rfl)
theorem dL_law_1912 : decode cL_law 1912 = .ok (.iadd, 1) := dk_96 (dk_at dksL_law_71 1 rfl rfl)
theorem dL_law_1913 : decode cL_law 1913 = .ok (.iaload, 1) := dk_46 (dk_at dksL_law_71 2 rfl rfl)
theorem dL_law_1914 : decode cL_law 1914 = .ok (.invokevirtual 259, 3) := dk_182 1 3 (dk_at dksL_law_71 3 rfl rfl)
theorem dL_law_1917 : decode cL_law 1917 = .ok (.aload_n 2, 1) := dk_44 (dk_at dksL_law_71 6 rfl rfl)
theorem dL_law_1918 : decode cL_law 1918 = .ok (.aload_n 0, 1) := dk_42 (dk_at dksL_law_71 7 rfl rfl)
theorem dL_law_1919 : decode cL_law 1919 = .ok (.iload_n 3, 1) := dk_29 (dk_at dksL_law_71 8 rfl rfl)
theorem dL_law_1920 : decode cL_law 1920 = .ok (.iconst 1, 1) := dk_4 (dk_at dksL_law_71 9 rfl rfl)
theorem dL_law_1921 : decode cL_law 1921 = .ok (.iadd, 1) := dk_96 (dk_at dksL_law_71 10 rfl rfl)
theorem dL_law_1922 : decode cL_law 1922 = .ok (.iaload, 1) := dk_46 (dk_at dksL_law_71 11 rfl rfl)
theorem dL_law_1923 : decode cL_law 1923 = .ok (.invokevirtual 262, 3) := dk_182 1 6 (dk_at dksL_law_71 12 rfl rfl)
theorem dL_law_1926 : decode cL_law 1926 = .ok (.if_icmp .eq 207, 3) := dk_159 0 207 (dk_at dksL_law_71 15 rfl rfl)
theorem dL_law_1929 : decode cL_law 1929 = .ok (.iconst 0, 1) := dk_3 (dk_at dksL_law_71 18 rfl rfl)
theorem dL_law_1930 : decode cL_law 1930 = .ok (.ireturn, 1) := dk_172 (dk_at dksL_law_71 19 rfl rfl)
theorem dL_law_1931 : decode cL_law 1931 = .ok (.aload_n 1, 1) := dk_43 (dk_at dksL_law_71 20 rfl rfl)
theorem dL_law_1932 : decode cL_law 1932 = .ok (.aload_n 0, 1) := dk_42 (dk_at dksL_law_71 21 rfl rfl)
theorem dL_law_1933 : decode cL_law 1933 = .ok (.iload_n 3, 1) := dk_29 (dk_at dksL_law_71 22 rfl rfl)
theorem dL_law_1934 : decode cL_law 1934 = .ok (.iconst 1, 1) := dk_4 (dk_at dksL_law_71 23 rfl rfl)
theorem dL_law_1935 : decode cL_law 1935 = .ok (.iadd, 1) := dk_96 (dk_at dksL_law_72 0 rfl rfl)
theorem dL_law_1936 : decode cL_law 1936 = .ok (.iaload, 1) := dk_46 (dk_at dksL_law_72 1 rfl rfl)
theorem dL_law_1937 : decode cL_law 1937 = .ok (.invokevirtual 263, 3) := dk_182 1 7 (dk_at dksL_law_72 2 rfl rfl)
theorem dL_law_1940 : decode cL_law 1940 = .ok (.aload_n 2, 1) := dk_44 (dk_at dksL_law_72 5 rfl rfl)
theorem dL_law_1941 : decode cL_law 1941 = .ok (.aload_n 0, 1) := dk_42 (dk_at dksL_law_72 6 rfl rfl)
theorem dL_law_1942 : decode cL_law 1942 = .ok (.iload_n 3, 1) := dk_29 (dk_at dksL_law_72 7 rfl rfl)
theorem dL_law_1943 : decode cL_law 1943 = .ok (.iconst 1, 1) := dk_4 (dk_at dksL_law_72 8 rfl rfl)
theorem dL_law_1944 : decode cL_law 1944 = .ok (.iadd, 1) := dk_96 (dk_at dksL_law_72 9 rfl rfl)
theorem dL_law_1945 : decode cL_law 1945 = .ok (.iaload, 1) := dk_46 (dk_at dksL_law_72 10 rfl rfl)
theorem dL_law_1946 : decode cL_law 1946 = .ok (.invokevirtual 266, 3) := dk_182 1 10 (dk_at dksL_law_72 11 rfl rfl)
theorem dL_law_1949 : decode cL_law 1949 = .ok (.if_icmp .eq 184, 3) := dk_159 0 184 (dk_at dksL_law_72 14 rfl rfl)
theorem dL_law_1952 : decode cL_law 1952 = .ok (.iconst 0, 1) := dk_3 (dk_at dksL_law_72 17 rfl rfl)
theorem dL_law_1953 : decode cL_law 1953 = .ok (.ireturn, 1) := dk_172 (dk_at dksL_law_72 18 rfl rfl)
theorem dL_law_1954 : decode cL_law 1954 = .ok (.aload_n 1, 1) := dk_43 (dk_at dksL_law_72 19 rfl rfl)
theorem dL_law_1955 : decode cL_law 1955 = .ok (.aload_n 0, 1) := dk_42 (dk_at dksL_law_72 20 rfl rfl)
theorem dL_law_1956 : decode cL_law 1956 = .ok (.iload_n 3, 1) := dk_29 (dk_at dksL_law_72 21 rfl rfl)
theorem dL_law_1957 : decode cL_law 1957 = .ok (.iconst 1, 1) := dk_4 (dk_at dksL_law_72 22 rfl rfl)
theorem dL_law_1958 : decode cL_law 1958 = .ok (.iadd, 1) := dk_96 (dk_at dksL_law_72 23 rfl rfl)
theorem dL_law_1959 : decode cL_law 1959 = .ok (.iaload, 1) := dk_46 (dk_at dksL_law_73 0 rfl rfl)
theorem dL_law_1960 : decode cL_law 1960 = .ok (.aload_n 0, 1) := dk_42 (dk_at dksL_law_73 1 rfl rfl)
theorem dL_law_1961 : decode cL_law 1961 = .ok (.iload_n 3, 1) := dk_29 (dk_at dksL_law_73 2 rfl rfl)
theorem dL_law_1962 : decode cL_law 1962 = .ok (.iconst 2, 1) := dk_5 (dk_at dksL_law_73 3 rfl rfl)
theorem dL_law_1963 : decode cL_law 1963 = .ok (.iadd, 1) := dk_96 (dk_at dksL_law_73 4 rfl rfl)
theorem dL_law_1964 : decode cL_law 1964 = .ok (.iaload, 1) := dk_46 (dk_at dksL_law_73 5 rfl rfl)
theorem dL_law_1965 : decode cL_law 1965 = .ok (.aload_n 0, 1) := dk_42 (dk_at dksL_law_73 6 rfl rfl)
theorem dL_law_1966 : decode cL_law 1966 = .ok (.iload_n 3, 1) := dk_29 (dk_at dksL_law_73 7 rfl rfl)
theorem dL_law_1967 : decode cL_law 1967 = .ok (.iconst 3, 1) := dk_6 (dk_at dksL_law_73 8 rfl rfl)
theorem dL_law_1968 : decode cL_law 1968 = .ok (.iadd, 1) := dk_96 (dk_at dksL_law_73 9 rfl rfl)
theorem dL_law_1969 : decode cL_law 1969 = .ok (.iaload, 1) := dk_46 (dk_at dksL_law_73 10 rfl rfl)
theorem dL_law_1970 : decode cL_law 1970 = .ok (.invokevirtual 267, 3) := dk_182 1 11 (dk_at dksL_law_73 11 rfl rfl)
theorem dL_law_1973 : decode cL_law 1973 = .ok (.aload_n 2, 1) := dk_44 (dk_at dksL_law_73 14 rfl rfl)
theorem dL_law_1974 : decode cL_law 1974 = .ok (.aload_n 0, 1) := dk_42 (dk_at dksL_law_73 15 rfl rfl)
theorem dL_law_1975 : decode cL_law 1975 = .ok (.iload_n 3, 1) := dk_29 (dk_at dksL_law_73 16 rfl rfl)
theorem dL_law_1976 : decode cL_law 1976 = .ok (.iconst 1, 1) := dk_4 (dk_at dksL_law_73 17 rfl rfl)
theorem dL_law_1977 : decode cL_law 1977 = .ok (.iadd, 1) := dk_96 (dk_at dksL_law_73 18 rfl rfl)
theorem dL_law_1978 : decode cL_law 1978 = .ok (.iaload, 1) := dk_46 (dk_at dksL_law_73 19 rfl rfl)
theorem dL_law_1979 : decode cL_law 1979 = .ok (.aload_n 0, 1) := dk_42 (dk_at dksL_law_73 20 rfl rfl)
theorem dL_law_1980 : decode cL_law 1980 = .ok (.iload_n 3, 1) := dk_29 (dk_at dksL_law_73 21 rfl rfl)
theorem dL_law_1981 : decode cL_law 1981 = .ok (.iconst 2, 1) := dk_5 (dk_at dksL_law_73 22 rfl rfl)
theorem dL_law_1982 : decode cL_law 1982 = .ok (.iadd, 1) := dk_96 (dk_at dksL_law_73 23 rfl rfl)
theorem dL_law_1983 : decode cL_law 1983 = .ok (.iaload, 1) := dk_46 (dk_at dksL_law_74 0 rfl rfl)
theorem dL_law_1984 : decode cL_law 1984 = .ok (.aload_n 0, 1) := dk_42 (dk_at dksL_law_74 1 rfl rfl)
theorem dL_law_1985 : decode cL_law 1985 = .ok (.iload_n 3, 1) := dk_29 (dk_at dksL_law_74 2 rfl rfl)
theorem dL_law_1986 : decode cL_law 1986 = .ok (.iconst 3, 1) := dk_6 (dk_at dksL_law_74 3 rfl rfl)
theorem dL_law_1987 : decode cL_law 1987 = .ok (.iadd, 1) := dk_96 (dk_at dksL_law_74 4 rfl rfl)
theorem dL_law_1988 : decode cL_law 1988 = .ok (.iaload, 1) := dk_46 (dk_at dksL_law_74 5 rfl rfl)
theorem dL_law_1989 : decode cL_law 1989 = .ok (.invokevirtual 270, 3) := dk_182 1 14 (dk_at dksL_law_74 6 rfl rfl)
theorem dL_law_1992 : decode cL_law 1992 = .ok (.if_icmp .eq 141, 3) := dk_159 0 141 (dk_at dksL_law_74 9 rfl rfl)
theorem dL_law_1995 : decode cL_law 1995 = .ok (.iconst 0, 1) := dk_3 (dk_at dksL_law_74 12 rfl rfl)
theorem dL_law_1996 : decode cL_law 1996 = .ok (.ireturn, 1) := dk_172 (dk_at dksL_law_74 13 rfl rfl)
theorem dL_law_1997 : decode cL_law 1997 = .ok (.aload_n 1, 1) := dk_43 (dk_at dksL_law_74 14 rfl rfl)
theorem dL_law_1998 : decode cL_law 1998 = .ok (.aload_n 0, 1) := dk_42 (dk_at dksL_law_74 15 rfl rfl)
theorem dL_law_1999 : decode cL_law 1999 = .ok (.iload_n 3, 1) := dk_29 (dk_at dksL_law_74 16 rfl rfl)
theorem dL_law_2000 : decode cL_law 2000 = .ok (.iconst 1, 1) := dk_4 (dk_at dksL_law_74 17 rfl rfl)
theorem dL_law_2001 : decode cL_law 2001 = .ok (.iadd, 1) := dk_96 (dk_at dksL_law_74 18 rfl rfl)
theorem dL_law_2002 : decode cL_law 2002 = .ok (.iaload, 1) := dk_46 (dk_at dksL_law_74 19 rfl rfl)
theorem dL_law_2003 : decode cL_law 2003 = .ok (.aload_n 0, 1) := dk_42 (dk_at dksL_law_74 20 rfl rfl)
theorem dL_law_2004 : decode cL_law 2004 = .ok (.iload_n 3, 1) := dk_29 (dk_at dksL_law_74 21 rfl rfl)
theorem dL_law_2005 : decode cL_law 2005 = .ok (.iconst 2, 1) := dk_5 (dk_at dksL_law_74 22 rfl rfl)
theorem dL_law_2006 : decode cL_law 2006 = .ok (.iadd, 1) := dk_96 (dk_at dksL_law_74 23 rfl rfl)
theorem dL_law_2007 : decode cL_law 2007 = .ok (.iaload, 1) := dk_46 (dk_at dksL_law_75 0 rfl rfl)
theorem dL_law_2008 : decode cL_law 2008 = .ok (.aload_n 0, 1) := dk_42 (dk_at dksL_law_75 1 rfl rfl)
theorem dL_law_2009 : decode cL_law 2009 = .ok (.iload_n 3, 1) := dk_29 (dk_at dksL_law_75 2 rfl rfl)
theorem dL_law_2010 : decode cL_law 2010 = .ok (.iconst 3, 1) := dk_6 (dk_at dksL_law_75 3 rfl rfl)
theorem dL_law_2011 : decode cL_law 2011 = .ok (.iadd, 1) := dk_96 (dk_at dksL_law_75 4 rfl rfl)
theorem dL_law_2012 : decode cL_law 2012 = .ok (.iaload, 1) := dk_46 (dk_at dksL_law_75 5 rfl rfl)
theorem dL_law_2013 : decode cL_law 2013 = .ok (.i2l, 1) := dk_133 (dk_at dksL_law_75 6 rfl rfl)
theorem dL_law_2014 : decode cL_law 2014 = .ok (.bipush 32, 2) := dk_16 32 (dk_at dksL_law_75 7 rfl rfl)
theorem dL_law_2016 : decode cL_law 2016 = .ok (.lshl, 1) := dk_121 (dk_at dksL_law_75 9 rfl rfl)
theorem dL_law_2017 : decode cL_law 2017 = .ok (.aload_n 0, 1) := dk_42 (dk_at dksL_law_75 10 rfl rfl)
theorem dL_law_2018 : decode cL_law 2018 = .ok (.iload_n 3, 1) := dk_29 (dk_at dksL_law_75 11 rfl rfl)
theorem dL_law_2019 : decode cL_law 2019 = .ok (.iconst 4, 1) := dk_7 (dk_at dksL_law_75 12 rfl rfl)
theorem dL_law_2020 : decode cL_law 2020 = .ok (.iadd, 1) := dk_96 (dk_at dksL_law_75 13 rfl rfl)
theorem dL_law_2021 : decode cL_law 2021 = .ok (.iaload, 1) := dk_46 (dk_at dksL_law_75 14 rfl rfl)
theorem dL_law_2022 : decode cL_law 2022 = .ok (.i2l, 1) := dk_133 (dk_at dksL_law_75 15 rfl rfl)
theorem dL_law_2023 : decode cL_law 2023 = .ok (.ldc2_w 271, 3) := dk_20 1 15 (dk_at dksL_law_75 16 rfl rfl)
theorem dL_law_2026 : decode cL_law 2026 = .ok (.land, 1) := dk_127 (dk_at dksL_law_75 19 rfl rfl)
theorem dL_law_2027 : decode cL_law 2027 = .ok (.lor, 1) := dk_129 (dk_at dksL_law_75 20 rfl rfl)
theorem dL_law_2028 : decode cL_law 2028 = .ok (.invokevirtual 273, 3) := dk_182 1 17 (dk_at dksL_law_75 21 rfl rfl)
theorem dL_law_2031 : decode cL_law 2031 = .ok (.aload_n 2, 1) := dk_44 (dk_at dksL_law_76 0 rfl rfl)
theorem dL_law_2032 : decode cL_law 2032 = .ok (.aload_n 0, 1) := dk_42 (dk_at dksL_law_76 1 rfl rfl)
theorem dL_law_2033 : decode cL_law 2033 = .ok (.iload_n 3, 1) := dk_29 (dk_at dksL_law_76 2 rfl rfl)
theorem dL_law_2034 : decode cL_law 2034 = .ok (.iconst 1, 1) := dk_4 (dk_at dksL_law_76 3 rfl rfl)
theorem dL_law_2035 : decode cL_law 2035 = .ok (.iadd, 1) := dk_96 (dk_at dksL_law_76 4 rfl rfl)
theorem dL_law_2036 : decode cL_law 2036 = .ok (.iaload, 1) := dk_46 (dk_at dksL_law_76 5 rfl rfl)
theorem dL_law_2037 : decode cL_law 2037 = .ok (.aload_n 0, 1) := dk_42 (dk_at dksL_law_76 6 rfl rfl)
theorem dL_law_2038 : decode cL_law 2038 = .ok (.iload_n 3, 1) := dk_29 (dk_at dksL_law_76 7 rfl rfl)
theorem dL_law_2039 : decode cL_law 2039 = .ok (.iconst 2, 1) := dk_5 (dk_at dksL_law_76 8 rfl rfl)
theorem dL_law_2040 : decode cL_law 2040 = .ok (.iadd, 1) := dk_96 (dk_at dksL_law_76 9 rfl rfl)
theorem dL_law_2041 : decode cL_law 2041 = .ok (.iaload, 1) := dk_46 (dk_at dksL_law_76 10 rfl rfl)
theorem dL_law_2042 : decode cL_law 2042 = .ok (.aload_n 0, 1) := dk_42 (dk_at dksL_law_76 11 rfl rfl)
theorem dL_law_2043 : decode cL_law 2043 = .ok (.iload_n 3, 1) := dk_29 (dk_at dksL_law_76 12 rfl rfl)
theorem dL_law_2044 : decode cL_law 2044 = .ok (.iconst 3, 1) := dk_6 (dk_at dksL_law_76 13 rfl rfl)
theorem dL_law_2045 : decode cL_law 2045 = .ok (.iadd, 1) := dk_96 (dk_at dksL_law_76 14 rfl rfl)
theorem dL_law_2046 : decode cL_law 2046 = .ok (.iaload, 1) := dk_46 (dk_at dksL_law_76 15 rfl rfl)
theorem dL_law_2047 : decode cL_law 2047 = .ok (.i2l, 1) := dk_133 (dk_at dksL_law_76 16 rfl rfl)
theorem dL_law_2048 : decode cL_law 2048 = .ok (.bipush 32, 2) := dk_16 32 (dk_at dksL_law_76 17 rfl rfl)
theorem dL_law_2050 : decode cL_law 2050 = .ok (.lshl, 1) := dk_121 (dk_at dksL_law_76 19 rfl rfl)
theorem dL_law_2051 : decode cL_law 2051 = .ok (.aload_n 0, 1) := dk_42 (dk_at dksL_law_76 20 rfl rfl)
theorem dL_law_2052 : decode cL_law 2052 = .ok (.iload_n 3, 1) := dk_29 (dk_at dksL_law_76 21 rfl rfl)
theorem dL_law_2053 : decode cL_law 2053 = .ok (.iconst 4, 1) := dk_7 (dk_at dksL_law_76 22 rfl rfl)
theorem dL_law_2054 : decode cL_law 2054 = .ok (.iadd, 1) := dk_96 (dk_at dksL_law_76 23 rfl rfl)
theorem dL_law_2055 : decode cL_law 2055 = .ok (.iaload, 1) := dk_46 (dk_at dksL_law_77 0 rfl rfl)
theorem dL_law_2056 : decode cL_law 2056 = .ok (.i2l, 1) := dk_133 (dk_at dksL_law_77 1 rfl rfl)
theorem dL_law_2057 : decode cL_law 2057 = .ok (.ldc2_w 271, 3) := dk_20 1 15 (dk_at dksL_law_77 2 rfl rfl)
theorem dL_law_2060 : decode cL_law 2060 = .ok (.land, 1) := dk_127 (dk_at dksL_law_77 5 rfl rfl)
theorem dL_law_2061 : decode cL_law 2061 = .ok (.lor, 1) := dk_129 (dk_at dksL_law_77 6 rfl rfl)
theorem dL_law_2062 : decode cL_law 2062 = .ok (.invokevirtual 277, 3) := dk_182 1 21 (dk_at dksL_law_77 7 rfl rfl)
theorem dL_law_2065 : decode cL_law 2065 = .ok (.if_icmp .eq 68, 3) := dk_159 0 68 (dk_at dksL_law_77 10 rfl rfl)
theorem dL_law_2068 : decode cL_law 2068 = .ok (.iconst 0, 1) := dk_3 (dk_at dksL_law_77 13 rfl rfl)
theorem dL_law_2069 : decode cL_law 2069 = .ok (.ireturn, 1) := dk_172 (dk_at dksL_law_77 14 rfl rfl)
theorem dL_law_2070 : decode cL_law 2070 = .ok (.aload_n 1, 1) := dk_43 (dk_at dksL_law_77 15 rfl rfl)
theorem dL_law_2071 : decode cL_law 2071 = .ok (.aload_n 0, 1) := dk_42 (dk_at dksL_law_77 16 rfl rfl)
theorem dL_law_2072 : decode cL_law 2072 = .ok (.iload_n 3, 1) := dk_29 (dk_at dksL_law_77 17 rfl rfl)
theorem dL_law_2073 : decode cL_law 2073 = .ok (.iconst 1, 1) := dk_4 (dk_at dksL_law_77 18 rfl rfl)
theorem dL_law_2074 : decode cL_law 2074 = .ok (.iadd, 1) := dk_96 (dk_at dksL_law_77 19 rfl rfl)
theorem dL_law_2075 : decode cL_law 2075 = .ok (.iaload, 1) := dk_46 (dk_at dksL_law_77 20 rfl rfl)
theorem dL_law_2076 : decode cL_law 2076 = .ok (.aload_n 0, 1) := dk_42 (dk_at dksL_law_77 21 rfl rfl)
theorem dL_law_2077 : decode cL_law 2077 = .ok (.iload_n 3, 1) := dk_29 (dk_at dksL_law_77 22 rfl rfl)
theorem dL_law_2078 : decode cL_law 2078 = .ok (.iconst 2, 1) := dk_5 (dk_at dksL_law_77 23 rfl rfl)
theorem dL_law_2079 : decode cL_law 2079 = .ok (.iadd, 1) := dk_96 (dk_at dksL_law_78 0 rfl rfl)
theorem dL_law_2080 : decode cL_law 2080 = .ok (.iaload, 1) := dk_46 (dk_at dksL_law_78 1 rfl rfl)
theorem dL_law_2081 : decode cL_law 2081 = .ok (.aload_n 0, 1) := dk_42 (dk_at dksL_law_78 2 rfl rfl)
theorem dL_law_2082 : decode cL_law 2082 = .ok (.iload_n 3, 1) := dk_29 (dk_at dksL_law_78 3 rfl rfl)
theorem dL_law_2083 : decode cL_law 2083 = .ok (.iconst 3, 1) := dk_6 (dk_at dksL_law_78 4 rfl rfl)
theorem dL_law_2084 : decode cL_law 2084 = .ok (.iadd, 1) := dk_96 (dk_at dksL_law_78 5 rfl rfl)
theorem dL_law_2085 : decode cL_law 2085 = .ok (.iaload, 1) := dk_46 (dk_at dksL_law_78 6 rfl rfl)
theorem dL_law_2086 : decode cL_law 2086 = .ok (.aload_n 0, 1) := dk_42 (dk_at dksL_law_78 7 rfl rfl)
theorem dL_law_2087 : decode cL_law 2087 = .ok (.iload_n 3, 1) := dk_29 (dk_at dksL_law_78 8 rfl rfl)
theorem dL_law_2088 : decode cL_law 2088 = .ok (.iconst 4, 1) := dk_7 (dk_at dksL_law_78 9 rfl rfl)
theorem dL_law_2089 : decode cL_law 2089 = .ok (.iadd, 1) := dk_96 (dk_at dksL_law_78 10 rfl rfl)
theorem dL_law_2090 : decode cL_law 2090 = .ok (.iaload, 1) := dk_46 (dk_at dksL_law_78 11 rfl rfl)
theorem dL_law_2091 : decode cL_law 2091 = .ok (.aload_n 0, 1) := dk_42 (dk_at dksL_law_78 12 rfl rfl)
theorem dL_law_2092 : decode cL_law 2092 = .ok (.iload_n 3, 1) := dk_29 (dk_at dksL_law_78 13 rfl rfl)
theorem dL_law_2093 : decode cL_law 2093 = .ok (.iconst 5, 1) := dk_8 (dk_at dksL_law_78 14 rfl rfl)
theorem dL_law_2094 : decode cL_law 2094 = .ok (.iadd, 1) := dk_96 (dk_at dksL_law_78 15 rfl rfl)
theorem dL_law_2095 : decode cL_law 2095 = .ok (.iaload, 1) := dk_46 (dk_at dksL_law_78 16 rfl rfl)
theorem dL_law_2096 : decode cL_law 2096 = .ok (.invokevirtual 278, 3) := dk_182 1 22 (dk_at dksL_law_78 17 rfl rfl)
theorem dL_law_2099 : decode cL_law 2099 = .ok (.aload_n 2, 1) := dk_44 (dk_at dksL_law_78 20 rfl rfl)
theorem dL_law_2100 : decode cL_law 2100 = .ok (.aload_n 0, 1) := dk_42 (dk_at dksL_law_78 21 rfl rfl)
theorem dL_law_2101 : decode cL_law 2101 = .ok (.iload_n 3, 1) := dk_29 (dk_at dksL_law_78 22 rfl rfl)
theorem dL_law_2102 : decode cL_law 2102 = .ok (.iconst 1, 1) := dk_4 (dk_at dksL_law_78 23 rfl rfl)
theorem dL_law_2103 : decode cL_law 2103 = .ok (.iadd, 1) := dk_96 (dk_at dksL_law_79 0 rfl rfl)
theorem dL_law_2104 : decode cL_law 2104 = .ok (.iaload, 1) := dk_46 (dk_at dksL_law_79 1 rfl rfl)
theorem dL_law_2105 : decode cL_law 2105 = .ok (.aload_n 0, 1) := dk_42 (dk_at dksL_law_79 2 rfl rfl)
theorem dL_law_2106 : decode cL_law 2106 = .ok (.iload_n 3, 1) := dk_29 (dk_at dksL_law_79 3 rfl rfl)
theorem dL_law_2107 : decode cL_law 2107 = .ok (.iconst 2, 1) := dk_5 (dk_at dksL_law_79 4 rfl rfl)
theorem dL_law_2108 : decode cL_law 2108 = .ok (.iadd, 1) := dk_96 (dk_at dksL_law_79 5 rfl rfl)
theorem dL_law_2109 : decode cL_law 2109 = .ok (.iaload, 1) := dk_46 (dk_at dksL_law_79 6 rfl rfl)
theorem dL_law_2110 : decode cL_law 2110 = .ok (.aload_n 0, 1) := dk_42 (dk_at dksL_law_79 7 rfl rfl)
theorem dL_law_2111 : decode cL_law 2111 = .ok (.iload_n 3, 1) := dk_29 (dk_at dksL_law_79 8 rfl rfl)
theorem dL_law_2112 : decode cL_law 2112 = .ok (.iconst 3, 1) := dk_6 (dk_at dksL_law_79 9 rfl rfl)
theorem dL_law_2113 : decode cL_law 2113 = .ok (.iadd, 1) := dk_96 (dk_at dksL_law_79 10 rfl rfl)
theorem dL_law_2114 : decode cL_law 2114 = .ok (.iaload, 1) := dk_46 (dk_at dksL_law_79 11 rfl rfl)
theorem dL_law_2115 : decode cL_law 2115 = .ok (.aload_n 0, 1) := dk_42 (dk_at dksL_law_79 12 rfl rfl)
theorem dL_law_2116 : decode cL_law 2116 = .ok (.iload_n 3, 1) := dk_29 (dk_at dksL_law_79 13 rfl rfl)
theorem dL_law_2117 : decode cL_law 2117 = .ok (.iconst 4, 1) := dk_7 (dk_at dksL_law_79 14 rfl rfl)
theorem dL_law_2118 : decode cL_law 2118 = .ok (.iadd, 1) := dk_96 (dk_at dksL_law_79 15 rfl rfl)
theorem dL_law_2119 : decode cL_law 2119 = .ok (.iaload, 1) := dk_46 (dk_at dksL_law_79 16 rfl rfl)
theorem dL_law_2120 : decode cL_law 2120 = .ok (.aload_n 0, 1) := dk_42 (dk_at dksL_law_79 17 rfl rfl)
theorem dL_law_2121 : decode cL_law 2121 = .ok (.iload_n 3, 1) := dk_29 (dk_at dksL_law_79 18 rfl rfl)
theorem dL_law_2122 : decode cL_law 2122 = .ok (.iconst 5, 1) := dk_8 (dk_at dksL_law_79 19 rfl rfl)
theorem dL_law_2123 : decode cL_law 2123 = .ok (.iadd, 1) := dk_96 (dk_at dksL_law_79 20 rfl rfl)
theorem dL_law_2124 : decode cL_law 2124 = .ok (.iaload, 1) := dk_46 (dk_at dksL_law_79 21 rfl rfl)
theorem dL_law_2125 : decode cL_law 2125 = .ok (.invokevirtual 281, 3) := dk_182 1 25 (dk_at dksL_law_80 0 rfl rfl)
theorem dL_law_2128 : decode cL_law 2128 = .ok (.if_icmp .eq 5, 3) := dk_159 0 5 (dk_at dksL_law_80 3 rfl rfl)
theorem dL_law_2131 : decode cL_law 2131 = .ok (.iconst 0, 1) := dk_3 (dk_at dksL_law_80 6 rfl rfl)
theorem dL_law_2132 : decode cL_law 2132 = .ok (.ireturn, 1) := dk_172 (dk_at dksL_law_80 7 rfl rfl)
theorem dL_law_2133 : decode cL_law 2133 = .ok (.iinc 3 6, 3) := dk_132 3 6 (dk_at dksL_law_80 8 rfl rfl)
theorem dL_law_2136 : decode cL_law 2136 = .ok (.goto (-2118), 3) := dk_167 247 186 (dk_at dksL_law_80 11 rfl rfl)
theorem dL_law_2139 : decode cL_law 2139 = .ok (.iconst 1, 1) := dk_4 (dk_at dksL_law_80 14 rfl rfl)
theorem dL_law_2140 : decode cL_law 2140 = .ok (.ireturn, 1) := dk_172 (dk_at dksL_law_80 15 rfl rfl)

theorem q135 : (Jvm.Cond.initialized "CardHolderLaw") ∈ lw_all := lw_g (lw_at lw_m1 0 rfl) rfl
set_option maxRecDepth 100000
theorem q171 : (Jvm.Cond.classLink "CardHolderLaw" (7 : Nat) "CardHolder") ∈ lw_all := lw_g (lw_at lw_m1 36 rfl) rfl
theorem q173 : (Jvm.Cond.methodLink "CardHolderLaw" (9 : Nat) ({ cls := "CardHolder", name := "<init>", desc := "()V" } : Jvm.MethodName)) ∈ lw_all := lw_g (lw_at lw_m1 38 rfl) rfl
theorem q367 : (Jvm.Cond.methodLink "CardHolderLaw" (13 : Nat) ({ cls := "CardHolder", name := "feed", desc := "(IIIII)I" } : Jvm.MethodName)) ∈ lw_all := lw_g (lw_at lw_m1 232 rfl) rfl
theorem q375 : (Jvm.Cond.methodLink "CardHolderLaw" (18 : Nat) ({ cls := "CardHolder", name := "end", desc := "(I)I" } : Jvm.MethodName)) ∈ lw_all := lw_g (lw_at lw_m2 0 rfl) rfl
theorem q382 : (Jvm.Cond.methodLink "CardHolderLaw" (23 : Nat) ({ cls := "CardHolder", name := "city", desc := "()I" } : Jvm.MethodName)) ∈ lw_all := lw_g (lw_at lw_m2 7 rfl) rfl
theorem q628 : (Jvm.Cond.methodLink "CardHolderLaw" (28 : Nat) ({ cls := "CardHolder", name := "fault", desc := "(I)I" } : Jvm.MethodName)) ∈ lw_all := lw_g (lw_at lw_m3 13 rfl) rfl
theorem q632 : (Jvm.Cond.methodLink "CardHolderLaw" (32 : Nat) ({ cls := "CardHolder", name := "person", desc := "(II)I" } : Jvm.MethodName)) ∈ lw_all := lw_g (lw_at lw_m3 17 rfl) rfl
theorem q823 : (Jvm.Cond.methodLink "CardHolderLaw" (37 : Nat) ({ cls := "CardHolder", name := "free", desc := "()I" } : Jvm.MethodName)) ∈ lw_all := lw_g (lw_at lw_m3 208 rfl) rfl
theorem q831 : (Jvm.Cond.methodLink "CardHolderLaw" (41 : Nat) ({ cls := "CardHolder", name := "under", desc := "(I)I" } : Jvm.MethodName)) ∈ lw_all := lw_g (lw_at lw_m3 216 rfl) rfl
theorem q839 : (Jvm.Cond.methodLink "CardHolderLaw" (45 : Nat) ({ cls := "CardHolder", name := "time", desc := "(II)I" } : Jvm.MethodName)) ∈ lw_all := lw_g (lw_at lw_m3 224 rfl) rfl
theorem q851 : (Jvm.Cond.methodLink "CardHolderLaw" (49 : Nat) ({ cls := "CardHolder", name := "top", desc := "(I)I" } : Jvm.MethodName)) ∈ lw_all := lw_g (lw_at lw_m3 236 rfl) rfl
theorem q855 : (Jvm.Cond.methodLink "CardHolderLaw" (53 : Nat) ({ cls := "CardHolder", name := "ring", desc := "(I)I" } : Jvm.MethodName)) ∈ lw_all := lw_g (lw_at lw_m4 0 rfl) rfl
theorem q863 : (Jvm.Cond.methodLink "CardHolderLaw" (57 : Nat) ({ cls := "CardHolder", name := "rings", desc := "()I" } : Jvm.MethodName)) ∈ lw_all := lw_g (lw_at lw_m4 8 rfl) rfl
theorem q876 : (Jvm.Cond.methodLink "CardHolderLaw" (61 : Nat) ({ cls := "CardHolder", name := "chain", desc := "(II)I" } : Jvm.MethodName)) ∈ lw_all := lw_g (lw_at lw_m4 21 rfl) rfl
theorem q887 : (Jvm.Cond.methodLink "CardHolderLaw" (65 : Nat) ({ cls := "CardHolder", name := "doer", desc := "(II)I" } : Jvm.MethodName)) ∈ lw_all := lw_g (lw_at lw_m4 32 rfl) rfl
theorem q891 : (Jvm.Cond.methodLink "CardHolderLaw" (69 : Nat) ({ cls := "CardHolder", name := "asked", desc := "(III)I" } : Jvm.MethodName)) ∈ lw_all := lw_g (lw_at lw_m4 36 rfl) rfl
theorem q895 : (Jvm.Cond.methodLink "CardHolderLaw" (74 : Nat) ({ cls := "CardHolder", name := "can", desc := "(I)I" } : Jvm.MethodName)) ∈ lw_all := lw_g (lw_at lw_m4 40 rfl) rfl
theorem q903 : (Jvm.Cond.methodLink "CardHolderLaw" (78 : Nat) ({ cls := "CardHolder", name := "why", desc := "(III)I" } : Jvm.MethodName)) ∈ lw_all := lw_g (lw_at lw_m4 48 rfl) rfl
theorem q915 : (Jvm.Cond.methodLink "CardHolderLaw" (82 : Nat) ({ cls := "CardHolder", name := "ask", desc := "(III)I" } : Jvm.MethodName)) ∈ lw_all := lw_g (lw_at lw_m4 60 rfl) rfl
theorem q923 : (Jvm.Cond.methodLink "CardHolderLaw" (86 : Nat) ({ cls := "CardHolder", name := "give", desc := "(IIII)I" } : Jvm.MethodName)) ∈ lw_all := lw_g (lw_at lw_m4 68 rfl) rfl
theorem q927 : (Jvm.Cond.methodLink "CardHolderLaw" (91 : Nat) ({ cls := "CardHolder", name := "swap", desc := "(II)I" } : Jvm.MethodName)) ∈ lw_all := lw_g (lw_at lw_m4 72 rfl) rfl
theorem q931 : (Jvm.Cond.methodLink "CardHolderLaw" (95 : Nat) ({ cls := "CardHolder", name := "steal", desc := "(II)I" } : Jvm.MethodName)) ∈ lw_all := lw_g (lw_at lw_m4 76 rfl) rfl
theorem q935 : (Jvm.Cond.methodLink "CardHolderLaw" (99 : Nat) ({ cls := "CardHolder", name := "day", desc := "()I" } : Jvm.MethodName)) ∈ lw_all := lw_g (lw_at lw_m4 80 rfl) rfl
theorem q939 : (Jvm.Cond.methodLink "CardHolderLaw" (103 : Nat) ({ cls := "CardHolder", name := "undo", desc := "()I" } : Jvm.MethodName)) ∈ lw_all := lw_g (lw_at lw_m4 84 rfl) rfl
theorem q943 : (Jvm.Cond.methodLink "CardHolderLaw" (107 : Nat) ({ cls := "CardHolder", name := "anew", desc := "()I" } : Jvm.MethodName)) ∈ lw_all := lw_g (lw_at lw_m4 88 rfl) rfl
theorem q947 : (Jvm.Cond.methodLink "CardHolderLaw" (111 : Nat) ({ cls := "CardHolder", name := "now", desc := "(I)I" } : Jvm.MethodName)) ∈ lw_all := lw_g (lw_at lw_m4 92 rfl) rfl
theorem q951 : (Jvm.Cond.methodLink "CardHolderLaw" (115 : Nat) ({ cls := "CardHolder", name := "own", desc := "()I" } : Jvm.MethodName)) ∈ lw_all := lw_g (lw_at lw_m4 96 rfl) rfl
theorem q959 : (Jvm.Cond.methodLink "CardHolderLaw" (119 : Nat) ({ cls := "CardHolder", name := "first", desc := "(I)I" } : Jvm.MethodName)) ∈ lw_all := lw_g (lw_at lw_m4 104 rfl) rfl
theorem q963 : (Jvm.Cond.methodLink "CardHolderLaw" (123 : Nat) ({ cls := "CardHolder", name := "work", desc := "()I" } : Jvm.MethodName)) ∈ lw_all := lw_g (lw_at lw_m4 108 rfl) rfl
theorem q979 : (Jvm.Cond.methodLink "CardHolderLaw" (127 : Nat) ({ cls := "CardHolder", name := "works", desc := "(I)I" } : Jvm.MethodName)) ∈ lw_all := lw_g (lw_at lw_m4 124 rfl) rfl
theorem q987 : (Jvm.Cond.methodLink "CardHolderLaw" (131 : Nat) ({ cls := "CardHolder", name := "cover", desc := "(I)I" } : Jvm.MethodName)) ∈ lw_all := lw_g (lw_at lw_m4 132 rfl) rfl
theorem q1013 : (Jvm.Cond.methodLink "CardHolderLaw" (135 : Nat) ({ cls := "CardHolder", name := "covers", desc := "(I)I" } : Jvm.MethodName)) ∈ lw_all := lw_g (lw_at lw_m4 158 rfl) rfl
theorem q1017 : (Jvm.Cond.methodLink "CardHolderLaw" (139 : Nat) ({ cls := "CardHolder", name := "buy", desc := "(I)I" } : Jvm.MethodName)) ∈ lw_all := lw_g (lw_at lw_m4 162 rfl) rfl
theorem q1029 : (Jvm.Cond.methodLink "CardHolderLaw" (143 : Nat) ({ cls := "CardHolder", name := "bought", desc := "(I)I" } : Jvm.MethodName)) ∈ lw_all := lw_g (lw_at lw_m4 174 rfl) rfl
theorem q1033 : (Jvm.Cond.methodLink "CardHolderLaw" (147 : Nat) ({ cls := "CardHolder", name := "deeds", desc := "(I)I" } : Jvm.MethodName)) ∈ lw_all := lw_g (lw_at lw_m4 178 rfl) rfl
theorem q1046 : (Jvm.Cond.methodLink "CardHolderLaw" (151 : Nat) ({ cls := "CardHolder", name := "hired", desc := "(I)I" } : Jvm.MethodName)) ∈ lw_all := lw_g (lw_at lw_m4 191 rfl) rfl
theorem q1050 : (Jvm.Cond.methodLink "CardHolderLaw" (155 : Nat) ({ cls := "CardHolder", name := "suspects", desc := "(I)I" } : Jvm.MethodName)) ∈ lw_all := lw_g (lw_at lw_m4 195 rfl) rfl
theorem q1113 : (Jvm.Cond.methodLink "CardHolderLaw" (159 : Nat) ({ cls := "CardHolder", name := "watch", desc := "(I)I" } : Jvm.MethodName)) ∈ lw_all := lw_g (lw_at lw_m5 18 rfl) rfl
theorem q1122 : (Jvm.Cond.methodLink "CardHolderLaw" (163 : Nat) ({ cls := "CardHolder", name := "leaves", desc := "(I)I" } : Jvm.MethodName)) ∈ lw_all := lw_g (lw_at lw_m5 27 rfl) rfl
theorem q1126 : (Jvm.Cond.methodLink "CardHolderLaw" (167 : Nat) ({ cls := "CardHolder", name := "proof", desc := "(I)I" } : Jvm.MethodName)) ∈ lw_all := lw_g (lw_at lw_m5 31 rfl) rfl
theorem q1130 : (Jvm.Cond.methodLink "CardHolderLaw" (171 : Nat) ({ cls := "CardHolder", name := "duel", desc := "(III)I" } : Jvm.MethodName)) ∈ lw_all := lw_g (lw_at lw_m5 35 rfl) rfl
theorem q1141 : (Jvm.Cond.methodLink "CardHolderLaw" (175 : Nat) ({ cls := "CardHolder", name := "lay", desc := "(II)I" } : Jvm.MethodName)) ∈ lw_all := lw_g (lw_at lw_m5 46 rfl) rfl
theorem q1154 : (Jvm.Cond.methodLink "CardHolderLaw" (179 : Nat) ({ cls := "CardHolder", name := "lays", desc := "(II)I" } : Jvm.MethodName)) ∈ lw_all := lw_g (lw_at lw_m5 59 rfl) rfl
theorem q1158 : (Jvm.Cond.methodLink "CardHolderLaw" (183 : Nat) ({ cls := "CardHolder", name := "reply", desc := "(II)I" } : Jvm.MethodName)) ∈ lw_all := lw_g (lw_at lw_m5 63 rfl) rfl
theorem q1162 : (Jvm.Cond.methodLink "CardHolderLaw" (187 : Nat) ({ cls := "CardHolder", name := "firm", desc := "(I)I" } : Jvm.MethodName)) ∈ lw_all := lw_g (lw_at lw_m5 67 rfl) rfl
theorem q1178 : (Jvm.Cond.methodLink "CardHolderLaw" (191 : Nat) ({ cls := "CardHolder", name := "firms", desc := "()I" } : Jvm.MethodName)) ∈ lw_all := lw_g (lw_at lw_m5 83 rfl) rfl
theorem q1182 : (Jvm.Cond.methodLink "CardHolderLaw" (195 : Nat) ({ cls := "CardHolder", name := "firmest", desc := "()I" } : Jvm.MethodName)) ∈ lw_all := lw_g (lw_at lw_m5 87 rfl) rfl
theorem q1186 : (Jvm.Cond.methodLink "CardHolderLaw" (199 : Nat) ({ cls := "CardHolder", name := "wins", desc := "(II)I" } : Jvm.MethodName)) ∈ lw_all := lw_g (lw_at lw_m5 91 rfl) rfl
theorem q1190 : (Jvm.Cond.methodLink "CardHolderLaw" (203 : Nat) ({ cls := "CardHolder", name := "leave", desc := "(I)I" } : Jvm.MethodName)) ∈ lw_all := lw_g (lw_at lw_m5 95 rfl) rfl
theorem q1194 : (Jvm.Cond.methodLink "CardHolderLaw" (207 : Nat) ({ cls := "CardHolder", name := "ransom", desc := "(II)I" } : Jvm.MethodName)) ∈ lw_all := lw_g (lw_at lw_m5 99 rfl) rfl
theorem q1202 : (Jvm.Cond.methodLink "CardHolderLaw" (211 : Nat) ({ cls := "CardHolder", name := "ransomed", desc := "(II)I" } : Jvm.MethodName)) ∈ lw_all := lw_g (lw_at lw_m5 107 rfl) rfl
theorem q1206 : (Jvm.Cond.methodLink "CardHolderLaw" (215 : Nat) ({ cls := "CardHolder", name := "power", desc := "(I)I" } : Jvm.MethodName)) ∈ lw_all := lw_g (lw_at lw_m5 111 rfl) rfl
theorem q1214 : (Jvm.Cond.methodLink "CardHolderLaw" (219 : Nat) ({ cls := "CardHolder", name := "mighty", desc := "()I" } : Jvm.MethodName)) ∈ lw_all := lw_g (lw_at lw_m5 119 rfl) rfl
theorem q1218 : (Jvm.Cond.methodLink "CardHolderLaw" (223 : Nat) ({ cls := "CardHolder", name := "covet", desc := "(I)I" } : Jvm.MethodName)) ∈ lw_all := lw_g (lw_at lw_m5 123 rfl) rfl
theorem q1222 : (Jvm.Cond.methodLink "CardHolderLaw" (227 : Nat) ({ cls := "CardHolder", name := "judge", desc := "(I)I" } : Jvm.MethodName)) ∈ lw_all := lw_g (lw_at lw_m5 127 rfl) rfl
theorem q1239 : (Jvm.Cond.methodLink "CardHolderLaw" (231 : Nat) ({ cls := "CardHolder", name := "freed", desc := "(I)I" } : Jvm.MethodName)) ∈ lw_all := lw_g (lw_at lw_m5 144 rfl) rfl
theorem q1243 : (Jvm.Cond.methodLink "CardHolderLaw" (235 : Nat) ({ cls := "CardHolder", name := "drawn", desc := "(II)I" } : Jvm.MethodName)) ∈ lw_all := lw_g (lw_at lw_m5 148 rfl) rfl
theorem q1259 : (Jvm.Cond.methodLink "CardHolderLaw" (239 : Nat) ({ cls := "CardHolder", name := "luck", desc := "(III)I" } : Jvm.MethodName)) ∈ lw_all := lw_g (lw_at lw_m5 164 rfl) rfl
theorem q1264 : (Jvm.Cond.methodLink "CardHolderLaw" (243 : Nat) ({ cls := "CardHolder", name := "winds", desc := "(II)I" } : Jvm.MethodName)) ∈ lw_all := lw_g (lw_at lw_m5 169 rfl) rfl
theorem q1268 : (Jvm.Cond.methodLink "CardHolderLaw" (247 : Nat) ({ cls := "CardHolder", name := "rate", desc := "(II)I" } : Jvm.MethodName)) ∈ lw_all := lw_g (lw_at lw_m5 173 rfl) rfl
theorem q1273 : (Jvm.Cond.methodLink "CardHolderLaw" (251 : Nat) ({ cls := "CardHolder", name := "forge", desc := "(II)I" } : Jvm.MethodName)) ∈ lw_all := lw_g (lw_at lw_m5 178 rfl) rfl
theorem q1277 : (Jvm.Cond.methodLink "CardHolderLaw" (255 : Nat) ({ cls := "CardHolder", name := "count", desc := "(I)I" } : Jvm.MethodName)) ∈ lw_all := lw_g (lw_at lw_m5 182 rfl) rfl
theorem q1281 : (Jvm.Cond.methodLink "CardHolderLaw" (259 : Nat) ({ cls := "CardHolder", name := "image", desc := "(I)I" } : Jvm.MethodName)) ∈ lw_all := lw_g (lw_at lw_m5 186 rfl) rfl
theorem q1301 : (Jvm.Cond.methodLink "CardHolderLaw" (263 : Nat) ({ cls := "CardHolder", name := "back", desc := "(I)I" } : Jvm.MethodName)) ∈ lw_all := lw_g (lw_at lw_m5 206 rfl) rfl
theorem q1305 : (Jvm.Cond.methodLink "CardHolderLaw" (267 : Nat) ({ cls := "CardHolder", name := "row", desc := "(III)I" } : Jvm.MethodName)) ∈ lw_all := lw_g (lw_at lw_m5 210 rfl) rfl
theorem q1342 : (Jvm.Cond.methodLink "CardHolderLaw" (273 : Nat) ({ cls := "CardHolder", name := "write", desc := "(IIJ)I" } : Jvm.MethodName)) ∈ lw_all := lw_g (lw_at lw_m6 7 rfl) rfl
theorem q1369 : (Jvm.Cond.methodLink "CardHolderLaw" (278 : Nat) ({ cls := "CardHolder", name := "paste", desc := "(IIIII)I" } : Jvm.MethodName)) ∈ lw_all := lw_g (lw_at lw_m6 34 rfl) rfl
theorem q1388 : (Jvm.Cond.classLink "CardHolderLaw" (10 : Nat) "CardHolderModel") ∈ lw_all := lw_g (lw_at lw_m6 53 rfl) rfl
theorem q1390 : (Jvm.Cond.methodLink "CardHolderLaw" (12 : Nat) ({ cls := "CardHolderModel", name := "<init>", desc := "()V" } : Jvm.MethodName)) ∈ lw_all := lw_g (lw_at lw_m6 55 rfl) rfl
theorem q1489 : (Jvm.Cond.methodLink "CardHolderLaw" (270 : Nat) ({ cls := "CardHolderModel", name := "row", desc := "(III)I" } : Jvm.MethodName)) ∈ lw_all := lw_g (lw_at lw_m6 154 rfl) rfl
theorem q1500 : (Jvm.Cond.methodLink "CardHolderLaw" (277 : Nat) ({ cls := "CardHolderModel", name := "write", desc := "(IIJ)I" } : Jvm.MethodName)) ∈ lw_all := lw_g (lw_at lw_m6 165 rfl) rfl
theorem q1507 : (Jvm.Cond.methodLink "CardHolderLaw" (281 : Nat) ({ cls := "CardHolderModel", name := "paste", desc := "(IIIII)I" } : Jvm.MethodName)) ∈ lw_all := lw_g (lw_at lw_m6 172 rfl) rfl
theorem q1511 : (Jvm.Cond.methodLink "CardHolderLaw" (17 : Nat) ({ cls := "CardHolderModel", name := "feed", desc := "(IIIII)I" } : Jvm.MethodName)) ∈ lw_all := lw_g (lw_at lw_m6 176 rfl) rfl
theorem q1519 : (Jvm.Cond.methodLink "CardHolderLaw" (22 : Nat) ({ cls := "CardHolderModel", name := "end", desc := "(I)I" } : Jvm.MethodName)) ∈ lw_all := lw_g (lw_at lw_m6 184 rfl) rfl
theorem q1523 : (Jvm.Cond.methodLink "CardHolderLaw" (31 : Nat) ({ cls := "CardHolderModel", name := "fault", desc := "(I)I" } : Jvm.MethodName)) ∈ lw_all := lw_g (lw_at lw_m6 188 rfl) rfl
theorem q1527 : (Jvm.Cond.methodLink "CardHolderLaw" (27 : Nat) ({ cls := "CardHolderModel", name := "city", desc := "()I" } : Jvm.MethodName)) ∈ lw_all := lw_g (lw_at lw_m6 192 rfl) rfl
theorem q1628 : (Jvm.Cond.methodLink "CardHolderLaw" (36 : Nat) ({ cls := "CardHolderModel", name := "person", desc := "(II)I" } : Jvm.MethodName)) ∈ lw_all := lw_g (lw_at lw_m7 53 rfl) rfl
theorem q1676 : (Jvm.Cond.methodLink "CardHolderLaw" (40 : Nat) ({ cls := "CardHolderModel", name := "free", desc := "()I" } : Jvm.MethodName)) ∈ lw_all := lw_g (lw_at lw_m7 101 rfl) rfl
theorem q1688 : (Jvm.Cond.methodLink "CardHolderLaw" (44 : Nat) ({ cls := "CardHolderModel", name := "under", desc := "(I)I" } : Jvm.MethodName)) ∈ lw_all := lw_g (lw_at lw_m7 113 rfl) rfl
theorem q1696 : (Jvm.Cond.methodLink "CardHolderLaw" (48 : Nat) ({ cls := "CardHolderModel", name := "time", desc := "(II)I" } : Jvm.MethodName)) ∈ lw_all := lw_g (lw_at lw_m7 121 rfl) rfl
theorem q1708 : (Jvm.Cond.methodLink "CardHolderLaw" (52 : Nat) ({ cls := "CardHolderModel", name := "top", desc := "(I)I" } : Jvm.MethodName)) ∈ lw_all := lw_g (lw_at lw_m7 133 rfl) rfl
theorem q1712 : (Jvm.Cond.methodLink "CardHolderLaw" (56 : Nat) ({ cls := "CardHolderModel", name := "ring", desc := "(I)I" } : Jvm.MethodName)) ∈ lw_all := lw_g (lw_at lw_m7 137 rfl) rfl
theorem q1720 : (Jvm.Cond.methodLink "CardHolderLaw" (60 : Nat) ({ cls := "CardHolderModel", name := "rings", desc := "()I" } : Jvm.MethodName)) ∈ lw_all := lw_g (lw_at lw_m7 145 rfl) rfl
theorem q1728 : (Jvm.Cond.methodLink "CardHolderLaw" (64 : Nat) ({ cls := "CardHolderModel", name := "chain", desc := "(II)I" } : Jvm.MethodName)) ∈ lw_all := lw_g (lw_at lw_m7 153 rfl) rfl
theorem q1744 : (Jvm.Cond.methodLink "CardHolderLaw" (68 : Nat) ({ cls := "CardHolderModel", name := "doer", desc := "(II)I" } : Jvm.MethodName)) ∈ lw_all := lw_g (lw_at lw_m7 169 rfl) rfl
theorem q1748 : (Jvm.Cond.methodLink "CardHolderLaw" (73 : Nat) ({ cls := "CardHolderModel", name := "asked", desc := "(III)I" } : Jvm.MethodName)) ∈ lw_all := lw_g (lw_at lw_m7 173 rfl) rfl
theorem q1752 : (Jvm.Cond.methodLink "CardHolderLaw" (77 : Nat) ({ cls := "CardHolderModel", name := "can", desc := "(I)I" } : Jvm.MethodName)) ∈ lw_all := lw_g (lw_at lw_m7 177 rfl) rfl
theorem q1756 : (Jvm.Cond.methodLink "CardHolderLaw" (81 : Nat) ({ cls := "CardHolderModel", name := "why", desc := "(III)I" } : Jvm.MethodName)) ∈ lw_all := lw_g (lw_at lw_m7 181 rfl) rfl
theorem q1764 : (Jvm.Cond.methodLink "CardHolderLaw" (85 : Nat) ({ cls := "CardHolderModel", name := "ask", desc := "(III)I" } : Jvm.MethodName)) ∈ lw_all := lw_g (lw_at lw_m7 189 rfl) rfl
theorem q1776 : (Jvm.Cond.methodLink "CardHolderLaw" (90 : Nat) ({ cls := "CardHolderModel", name := "give", desc := "(IIII)I" } : Jvm.MethodName)) ∈ lw_all := lw_g (lw_at lw_m7 201 rfl) rfl
theorem q1780 : (Jvm.Cond.methodLink "CardHolderLaw" (94 : Nat) ({ cls := "CardHolderModel", name := "swap", desc := "(II)I" } : Jvm.MethodName)) ∈ lw_all := lw_g (lw_at lw_m7 205 rfl) rfl
theorem q1784 : (Jvm.Cond.methodLink "CardHolderLaw" (98 : Nat) ({ cls := "CardHolderModel", name := "steal", desc := "(II)I" } : Jvm.MethodName)) ∈ lw_all := lw_g (lw_at lw_m7 209 rfl) rfl
theorem q1788 : (Jvm.Cond.methodLink "CardHolderLaw" (102 : Nat) ({ cls := "CardHolderModel", name := "day", desc := "()I" } : Jvm.MethodName)) ∈ lw_all := lw_g (lw_at lw_m7 213 rfl) rfl
theorem q1792 : (Jvm.Cond.methodLink "CardHolderLaw" (106 : Nat) ({ cls := "CardHolderModel", name := "undo", desc := "()I" } : Jvm.MethodName)) ∈ lw_all := lw_g (lw_at lw_m7 217 rfl) rfl
theorem q1796 : (Jvm.Cond.methodLink "CardHolderLaw" (110 : Nat) ({ cls := "CardHolderModel", name := "anew", desc := "()I" } : Jvm.MethodName)) ∈ lw_all := lw_g (lw_at lw_m7 221 rfl) rfl
theorem q1800 : (Jvm.Cond.methodLink "CardHolderLaw" (114 : Nat) ({ cls := "CardHolderModel", name := "now", desc := "(I)I" } : Jvm.MethodName)) ∈ lw_all := lw_g (lw_at lw_m7 225 rfl) rfl
theorem q1804 : (Jvm.Cond.methodLink "CardHolderLaw" (118 : Nat) ({ cls := "CardHolderModel", name := "own", desc := "()I" } : Jvm.MethodName)) ∈ lw_all := lw_g (lw_at lw_m7 229 rfl) rfl
theorem q1815 : (Jvm.Cond.methodLink "CardHolderLaw" (122 : Nat) ({ cls := "CardHolderModel", name := "first", desc := "(I)I" } : Jvm.MethodName)) ∈ lw_all := lw_g (lw_at lw_m8 0 rfl) rfl
theorem q1819 : (Jvm.Cond.methodLink "CardHolderLaw" (126 : Nat) ({ cls := "CardHolderModel", name := "work", desc := "()I" } : Jvm.MethodName)) ∈ lw_all := lw_g (lw_at lw_m8 4 rfl) rfl
theorem q1831 : (Jvm.Cond.methodLink "CardHolderLaw" (130 : Nat) ({ cls := "CardHolderModel", name := "works", desc := "(I)I" } : Jvm.MethodName)) ∈ lw_all := lw_g (lw_at lw_m8 16 rfl) rfl
theorem q1835 : (Jvm.Cond.methodLink "CardHolderLaw" (134 : Nat) ({ cls := "CardHolderModel", name := "cover", desc := "(I)I" } : Jvm.MethodName)) ∈ lw_all := lw_g (lw_at lw_m8 20 rfl) rfl
theorem q1856 : (Jvm.Cond.methodLink "CardHolderLaw" (138 : Nat) ({ cls := "CardHolderModel", name := "covers", desc := "(I)I" } : Jvm.MethodName)) ∈ lw_all := lw_g (lw_at lw_m8 41 rfl) rfl
theorem q1860 : (Jvm.Cond.methodLink "CardHolderLaw" (142 : Nat) ({ cls := "CardHolderModel", name := "buy", desc := "(I)I" } : Jvm.MethodName)) ∈ lw_all := lw_g (lw_at lw_m8 45 rfl) rfl
theorem q1872 : (Jvm.Cond.methodLink "CardHolderLaw" (146 : Nat) ({ cls := "CardHolderModel", name := "bought", desc := "(I)I" } : Jvm.MethodName)) ∈ lw_all := lw_g (lw_at lw_m8 57 rfl) rfl
theorem q1876 : (Jvm.Cond.methodLink "CardHolderLaw" (150 : Nat) ({ cls := "CardHolderModel", name := "deeds", desc := "(I)I" } : Jvm.MethodName)) ∈ lw_all := lw_g (lw_at lw_m8 61 rfl) rfl
theorem q1885 : (Jvm.Cond.methodLink "CardHolderLaw" (154 : Nat) ({ cls := "CardHolderModel", name := "hired", desc := "(I)I" } : Jvm.MethodName)) ∈ lw_all := lw_g (lw_at lw_m8 70 rfl) rfl
theorem q1889 : (Jvm.Cond.methodLink "CardHolderLaw" (158 : Nat) ({ cls := "CardHolderModel", name := "suspects", desc := "(I)I" } : Jvm.MethodName)) ∈ lw_all := lw_g (lw_at lw_m8 74 rfl) rfl
theorem q1905 : (Jvm.Cond.methodLink "CardHolderLaw" (162 : Nat) ({ cls := "CardHolderModel", name := "watch", desc := "(I)I" } : Jvm.MethodName)) ∈ lw_all := lw_g (lw_at lw_m8 90 rfl) rfl
theorem q1913 : (Jvm.Cond.methodLink "CardHolderLaw" (166 : Nat) ({ cls := "CardHolderModel", name := "leaves", desc := "(I)I" } : Jvm.MethodName)) ∈ lw_all := lw_g (lw_at lw_m8 98 rfl) rfl
theorem q1917 : (Jvm.Cond.methodLink "CardHolderLaw" (170 : Nat) ({ cls := "CardHolderModel", name := "proof", desc := "(I)I" } : Jvm.MethodName)) ∈ lw_all := lw_g (lw_at lw_m8 102 rfl) rfl
theorem q1921 : (Jvm.Cond.methodLink "CardHolderLaw" (174 : Nat) ({ cls := "CardHolderModel", name := "duel", desc := "(III)I" } : Jvm.MethodName)) ∈ lw_all := lw_g (lw_at lw_m8 106 rfl) rfl
theorem q1932 : (Jvm.Cond.methodLink "CardHolderLaw" (178 : Nat) ({ cls := "CardHolderModel", name := "lay", desc := "(II)I" } : Jvm.MethodName)) ∈ lw_all := lw_g (lw_at lw_m8 117 rfl) rfl
theorem q1948 : (Jvm.Cond.methodLink "CardHolderLaw" (182 : Nat) ({ cls := "CardHolderModel", name := "lays", desc := "(II)I" } : Jvm.MethodName)) ∈ lw_all := lw_g (lw_at lw_m8 133 rfl) rfl
theorem q1952 : (Jvm.Cond.methodLink "CardHolderLaw" (186 : Nat) ({ cls := "CardHolderModel", name := "reply", desc := "(II)I" } : Jvm.MethodName)) ∈ lw_all := lw_g (lw_at lw_m8 137 rfl) rfl
theorem q1956 : (Jvm.Cond.methodLink "CardHolderLaw" (190 : Nat) ({ cls := "CardHolderModel", name := "firm", desc := "(I)I" } : Jvm.MethodName)) ∈ lw_all := lw_g (lw_at lw_m8 141 rfl) rfl
theorem q1972 : (Jvm.Cond.methodLink "CardHolderLaw" (194 : Nat) ({ cls := "CardHolderModel", name := "firms", desc := "()I" } : Jvm.MethodName)) ∈ lw_all := lw_g (lw_at lw_m8 157 rfl) rfl
theorem q1976 : (Jvm.Cond.methodLink "CardHolderLaw" (198 : Nat) ({ cls := "CardHolderModel", name := "firmest", desc := "()I" } : Jvm.MethodName)) ∈ lw_all := lw_g (lw_at lw_m8 161 rfl) rfl
theorem q1980 : (Jvm.Cond.methodLink "CardHolderLaw" (202 : Nat) ({ cls := "CardHolderModel", name := "wins", desc := "(II)I" } : Jvm.MethodName)) ∈ lw_all := lw_g (lw_at lw_m8 165 rfl) rfl
theorem q1984 : (Jvm.Cond.methodLink "CardHolderLaw" (206 : Nat) ({ cls := "CardHolderModel", name := "leave", desc := "(I)I" } : Jvm.MethodName)) ∈ lw_all := lw_g (lw_at lw_m8 169 rfl) rfl
theorem q1988 : (Jvm.Cond.methodLink "CardHolderLaw" (210 : Nat) ({ cls := "CardHolderModel", name := "ransom", desc := "(II)I" } : Jvm.MethodName)) ∈ lw_all := lw_g (lw_at lw_m8 173 rfl) rfl
theorem q1996 : (Jvm.Cond.methodLink "CardHolderLaw" (214 : Nat) ({ cls := "CardHolderModel", name := "ransomed", desc := "(II)I" } : Jvm.MethodName)) ∈ lw_all := lw_g (lw_at lw_m8 181 rfl) rfl
theorem q2000 : (Jvm.Cond.methodLink "CardHolderLaw" (218 : Nat) ({ cls := "CardHolderModel", name := "power", desc := "(I)I" } : Jvm.MethodName)) ∈ lw_all := lw_g (lw_at lw_m8 185 rfl) rfl
theorem q2008 : (Jvm.Cond.methodLink "CardHolderLaw" (222 : Nat) ({ cls := "CardHolderModel", name := "mighty", desc := "()I" } : Jvm.MethodName)) ∈ lw_all := lw_g (lw_at lw_m8 193 rfl) rfl
theorem q2012 : (Jvm.Cond.methodLink "CardHolderLaw" (226 : Nat) ({ cls := "CardHolderModel", name := "covet", desc := "(I)I" } : Jvm.MethodName)) ∈ lw_all := lw_g (lw_at lw_m8 197 rfl) rfl
theorem q2016 : (Jvm.Cond.methodLink "CardHolderLaw" (230 : Nat) ({ cls := "CardHolderModel", name := "judge", desc := "(I)I" } : Jvm.MethodName)) ∈ lw_all := lw_g (lw_at lw_m8 201 rfl) rfl
theorem q2028 : (Jvm.Cond.methodLink "CardHolderLaw" (234 : Nat) ({ cls := "CardHolderModel", name := "freed", desc := "(I)I" } : Jvm.MethodName)) ∈ lw_all := lw_g (lw_at lw_m8 213 rfl) rfl
theorem q2032 : (Jvm.Cond.methodLink "CardHolderLaw" (238 : Nat) ({ cls := "CardHolderModel", name := "drawn", desc := "(II)I" } : Jvm.MethodName)) ∈ lw_all := lw_g (lw_at lw_m8 217 rfl) rfl
theorem q2048 : (Jvm.Cond.methodLink "CardHolderLaw" (242 : Nat) ({ cls := "CardHolderModel", name := "luck", desc := "(III)I" } : Jvm.MethodName)) ∈ lw_all := lw_g (lw_at lw_m8 233 rfl) rfl
theorem q2053 : (Jvm.Cond.methodLink "CardHolderLaw" (246 : Nat) ({ cls := "CardHolderModel", name := "winds", desc := "(II)I" } : Jvm.MethodName)) ∈ lw_all := lw_g (lw_at lw_m8 238 rfl) rfl
theorem q2057 : (Jvm.Cond.methodLink "CardHolderLaw" (250 : Nat) ({ cls := "CardHolderModel", name := "rate", desc := "(II)I" } : Jvm.MethodName)) ∈ lw_all := lw_g (lw_at lw_m9 2 rfl) rfl
theorem q2062 : (Jvm.Cond.methodLink "CardHolderLaw" (254 : Nat) ({ cls := "CardHolderModel", name := "forge", desc := "(II)I" } : Jvm.MethodName)) ∈ lw_all := lw_g (lw_at lw_m9 7 rfl) rfl
theorem q2066 : (Jvm.Cond.methodLink "CardHolderLaw" (258 : Nat) ({ cls := "CardHolderModel", name := "count", desc := "(I)I" } : Jvm.MethodName)) ∈ lw_all := lw_g (lw_at lw_m9 11 rfl) rfl
theorem q2070 : (Jvm.Cond.methodLink "CardHolderLaw" (262 : Nat) ({ cls := "CardHolderModel", name := "image", desc := "(I)I" } : Jvm.MethodName)) ∈ lw_all := lw_g (lw_at lw_m9 15 rfl) rfl
theorem q2075 : (Jvm.Cond.methodLink "CardHolderLaw" (266 : Nat) ({ cls := "CardHolderModel", name := "back", desc := "(I)I" } : Jvm.MethodName)) ∈ lw_all := lw_g (lw_at lw_m9 20 rfl) rfl
theorem q2079 : (Jvm.Cond.constantLong "CardHolderLaw" (271 : Nat) (4294967295 : Int64)) ∈ lw_all := lw_g (lw_at lw_m9 24 rfl) rfl
