/-! 22.meth.lean.txt (printed by wip/gen/gen13.py): methods 171 .. 201 -/
set_option maxRecDepth 100000
/-! QuotaPeersModel.tick(I)I -/
def xB171_0 : List z_Op × z_Tm := ([zo_ldA 0, zo_cI (0), zo_pI 8 0, zo_ldI 1, zo_ldA 0, zo_gI 8 1], zt_icmp (fun x y => x < y) 2 [false, false, false, false, false] 1 [true, true, false, false, false])
def xB171_1 : List z_Op × z_Tm := ([zo_ldI 1, zo_ldA 0, zo_gI 8 1, zo_ii ((· - ·)), zo_cI (2000)], zt_icmp (fun x y => x ≤ y) 3 [true, true, false, false, false] 2 [false, false, false, false, false])
def xB171_2 : List z_Op × z_Tm := ([zo_cI (-2)], zt_iret)
def xB171_3 : List z_Op × z_Tm := ([zo_cI (0), zo_stI 2], zt_goto 4 [true, true, true, false, false])
def xB171_4 : List z_Op × z_Tm := ([zo_ldA 0, zo_gI 8 1, zo_ldI 1], zt_icmp (fun x y => y ≤ x) 23 [false, false, true, false, false] 5 [true, true, true, false, false])
def xB171_5 : List z_Op × z_Tm := ([zo_ldA 0, zo_dupR, zo_gI 8 1, zo_cI (1), zo_ii ((· + ·)), zo_pI 8 1, zo_cI (0), zo_stI 3], zt_goto 6 [true, true, true, true, false])
def xB171_6 : List z_Op × z_Tm := ([zo_ldI 3, zo_ldA 0, zo_gI 8 7], zt_icmp (fun x y => y ≤ x) 17 [true, true, true, false, false] 7 [true, true, true, true, false])
def xB171_7 : List z_Op × z_Tm := ([zo_ldA 0, zo_gR 8 11, zo_ldI 3, zo_aldI 16, zo_cI (1), zo_cI (4), zo_crS 85 3], zt_if (fun x => x = 0) 8 [true, true, true, true, false] 9 [true, true, true, true, false])
def xB171_8 : List z_Op × z_Tm := ([zo_ldA 0, zo_gR 8 11, zo_ldI 3, zo_aldI 16, zo_cI (7)], zt_icmp (fun x y => x = y) 9 [true, true, true, true, false] 10 [true, true, true, true, false])
def xB171_9 : List z_Op × z_Tm := ([zo_cI (1)], zt_goto 11 [true, true, true, true, false])
def xB171_10 : List z_Op × z_Tm := ([zo_cI (0)], zt_goto 11 [true, true, true, true, false])
def xB171_11 : List z_Op × z_Tm := ([zo_stI 4, zo_ldI 4], zt_if (fun x => x = 0) 14 [true, true, true, true, false] 12 [true, true, true, true, false])
def xB171_12 : List z_Op × z_Tm := ([zo_ldA 0, zo_gR 8 12, zo_ldI 3, zo_aldI 16, zo_ldA 0, zo_gI 8 1], zt_icmp (fun x y => y < x) 14 [true, true, true, true, false] 13 [true, true, true, true, false])
def xB171_13 : List z_Op × z_Tm := ([zo_ldA 0, zo_ldI 3, zo_cvV 130 1 8, zo_inc 2 (1)], zt_goto 14 [true, true, true, true, false])
def xB171_14 : List z_Op × z_Tm := ([zo_ldA 0, zo_gR 8 17, zo_ldI 3, zo_aldI 16, zo_ldA 0, zo_gI 8 1], zt_icmp (fun x y => y < x) 16 [true, true, true, true, false] 15 [true, true, true, true, false])
def xB171_15 : List z_Op × z_Tm := ([zo_ldA 0, zo_ldI 3, zo_cvV 170 1 8, zo_inc 2 (1)], zt_goto 16 [true, true, true, true, false])
def xB171_16 : List z_Op × z_Tm := ([zo_inc 3 (1)], zt_goto 6 [true, true, true, true, false])
def xB171_17 : List z_Op × z_Tm := ([zo_cI (0), zo_stI 3], zt_goto 18 [true, true, true, true, false])
def xB171_18 : List z_Op × z_Tm := ([zo_ldI 3, zo_ldA 0, zo_gI 8 40], zt_icmp (fun x y => y ≤ x) 22 [true, true, true, false, false] 19 [true, true, true, true, false])
def xB171_19 : List z_Op × z_Tm := ([zo_ldA 0, zo_gR 8 48, zo_ldI 3, zo_aldI 16, zo_ldA 0, zo_gI 8 1], zt_icmp (fun x y => y < x) 21 [true, true, true, true, false] 20 [true, true, true, true, false])
def xB171_20 : List z_Op × z_Tm := ([zo_ldA 0, zo_gR 8 38, zo_ldA 0, zo_gR 8 44, zo_ldI 3, zo_aldI 16, zo_dup2, zo_aldJ, zo_ldA 0, zo_gR 8 45, zo_ldI 3, zo_aldJ, zo_jj (· - ·), zo_astJ, zo_ldA 0, zo_ldI 3, zo_cvV 140 1 8, zo_inc 2 (1)], zt_goto 18 [true, true, true, true, false])
def xB171_21 : List z_Op × z_Tm := ([zo_inc 3 (1)], zt_goto 18 [true, true, true, true, false])
def xB171_22 : List z_Op × z_Tm := ([], zt_goto 4 [true, true, true, false, false])
def xB171_23 : List z_Op × z_Tm := ([zo_ldI 2], zt_iret)
def xp171 : Nat → Nat := fun b => ([0, 13, 25, 28, 30, 38, 50, 58, 72, 83, 87, 88, 95, 108, 116, 129, 137, 143, 145, 153, 166, 197, 203, 206] : List Nat).getD b 0
def xP171 : z_M := fun b => ([xB171_0, xB171_1, xB171_2, xB171_3, xB171_4, xB171_5, xB171_6, xB171_7, xB171_8, xB171_9, xB171_10, xB171_11, xB171_12, xB171_13, xB171_14, xB171_15, xB171_16, xB171_17, xB171_18, xB171_19, xB171_20, xB171_21, xB171_22, xB171_23] : List (List z_Op × z_Tm)).getD b z_dead
section
variable {d : Nat} {G : z_G} {l : Launch} {C : z_O}
theorem xb171_0 (hC : z_HC l G d z_tb C) : z_SB "QuotaPeersModel" prog_13_method_89_code 5 false d G l C ((Option.some Jvm.ClassFile.FieldType.int)) xp171 0 xB171_0.1 xB171_0.2 := sb_cons (n := 1) hC.1 (tz_ldA _) (so_aload_n 0 (by decide +kernel)) (sb_cons (n := 1) hC.1 (tz_cI _) (so_iconst (0) (0) (by decide +kernel) (by decide +kernel)) (sb_cons (n := 3) hC.1 (tz_pI _ _) (xp_8_0 w1151 (by decide +kernel)) (sb_cons (n := 1) hC.1 (tz_ldI _) (so_iload_n 1 (by decide +kernel)) (sb_cons (n := 1) hC.1 (tz_ldA _) (so_aload_n 0 (by decide +kernel)) (sb_cons (n := 3) hC.1 (tz_gI _ _) (xg_8_1 w1152 (by decide +kernel)) (sb_nil (tz_icmp _ _ _ _ _) (st_icmp_lt (off := 15) (by decide) (by decide) (by decide +kernel))))))))
theorem xb171_1 (hC : z_HC l G d z_tb C) : z_SB "QuotaPeersModel" prog_13_method_89_code 5 false d G l C ((Option.some Jvm.ClassFile.FieldType.int)) xp171 13 xB171_1.1 xB171_1.2 := sb_cons (n := 1) hC.1 (tz_ldI _) (so_iload_n 1 (by decide +kernel)) (sb_cons (n := 1) hC.1 (tz_ldA _) (so_aload_n 0 (by decide +kernel)) (sb_cons (n := 3) hC.1 (tz_gI _ _) (xg_8_1 w1152 (by decide +kernel)) (sb_cons (n := 1) hC.1 (tz_ii _) (so_isub (by decide +kernel)) (sb_cons (n := 3) hC.1 (tz_cI _) (so_sipush (2000) (2000) (by decide +kernel) (by decide +kernel)) (sb_nil (tz_icmp _ _ _ _ _) (st_icmp_le (off := 6) (by decide) (by decide) (by decide +kernel)))))))
theorem xb171_2 (hC : z_HC l G d z_tb C) : z_SB "QuotaPeersModel" prog_13_method_89_code 5 false d G l C ((Option.some Jvm.ClassFile.FieldType.int)) xp171 25 xB171_2.1 xB171_2.2 := sb_cons (n := 2) hC.1 (tz_cI _) (so_bipush (-2) (-2) (by decide +kernel) (by decide +kernel)) (sb_nil (tz_iret) (st_iret rfl (by decide +kernel)))
theorem xb171_3 (hC : z_HC l G d z_tb C) : z_SB "QuotaPeersModel" prog_13_method_89_code 5 false d G l C ((Option.some Jvm.ClassFile.FieldType.int)) xp171 28 xB171_3.1 xB171_3.2 := sb_cons (n := 1) hC.1 (tz_cI _) (so_iconst (0) (0) (by decide +kernel) (by decide +kernel)) (sb_cons (n := 1) hC.1 (tz_stI _) (so_istore_n 2 (by decide) (by decide +kernel)) (sb_nil (tz_goto _ _) (st_fall (by decide))))
theorem xb171_4 (hC : z_HC l G d z_tb C) : z_SB "QuotaPeersModel" prog_13_method_89_code 5 false d G l C ((Option.some Jvm.ClassFile.FieldType.int)) xp171 30 xB171_4.1 xB171_4.2 := sb_cons (n := 1) hC.1 (tz_ldA _) (so_aload_n 0 (by decide +kernel)) (sb_cons (n := 3) hC.1 (tz_gI _ _) (xg_8_1 w1152 (by decide +kernel)) (sb_cons (n := 1) hC.1 (tz_ldI _) (so_iload_n 1 (by decide +kernel)) (sb_nil (tz_icmp _ _ _ _ _) (st_icmp_ge (off := 171) (by decide) (by decide) (by decide +kernel)))))
theorem xb171_5 (hC : z_HC l G d z_tb C) : z_SB "QuotaPeersModel" prog_13_method_89_code 5 false d G l C ((Option.some Jvm.ClassFile.FieldType.int)) xp171 38 xB171_5.1 xB171_5.2 := sb_cons (n := 1) hC.1 (tz_ldA _) (so_aload_n 0 (by decide +kernel)) (sb_cons (n := 1) hC.1 (tz_dupR) (so_dupR (by decide +kernel)) (sb_cons (n := 3) hC.1 (tz_gI _ _) (xg_8_1 w1152 (by decide +kernel)) (sb_cons (n := 1) hC.1 (tz_cI _) (so_iconst (1) (1) (by decide +kernel) (by decide +kernel)) (sb_cons (n := 1) hC.1 (tz_ii _) (so_iadd (by decide +kernel)) (sb_cons (n := 3) hC.1 (tz_pI _ _) (xp_8_1 w1152 (by decide +kernel)) (sb_cons (n := 1) hC.1 (tz_cI _) (so_iconst (0) (0) (by decide +kernel) (by decide +kernel)) (sb_cons (n := 1) hC.1 (tz_stI _) (so_istore_n 3 (by decide) (by decide +kernel)) (sb_nil (tz_goto _ _) (st_fall (by decide))))))))))
theorem xb171_6 (hC : z_HC l G d z_tb C) : z_SB "QuotaPeersModel" prog_13_method_89_code 5 false d G l C ((Option.some Jvm.ClassFile.FieldType.int)) xp171 50 xB171_6.1 xB171_6.2 := sb_cons (n := 1) hC.1 (tz_ldI _) (so_iload_n 3 (by decide +kernel)) (sb_cons (n := 1) hC.1 (tz_ldA _) (so_aload_n 0 (by decide +kernel)) (sb_cons (n := 3) hC.1 (tz_gI _ _) (xg_8_7 w1158 (by decide +kernel)) (sb_nil (tz_icmp _ _ _ _ _) (st_icmp_ge (off := 88) (by decide) (by decide) (by decide +kernel)))))
theorem xb171_7 (hC : z_HC l G d z_tb C) : z_SB "QuotaPeersModel" prog_13_method_89_code 5 false d G l C ((Option.some Jvm.ClassFile.FieldType.int)) xp171 58 xB171_7.1 xB171_7.2 := sb_cons (n := 1) hC.1 (tz_ldA _) (so_aload_n 0 (by decide +kernel)) (sb_cons (n := 3) hC.1 (tz_gR _ _) (xg_8_11 w1162 (by decide +kernel)) (sb_cons (n := 1) hC.1 (tz_ldI _) (so_iload_n 3 (by decide +kernel)) (sb_cons (n := 1) hC.1 (tz_aldI _) (so_iaload (by decide +kernel)) (sb_cons (n := 1) hC.1 (tz_cI _) (so_iconst (1) (1) (by decide +kernel) (by decide +kernel)) (sb_cons (n := 1) hC.1 (tz_cI _) (so_iconst (4) (4) (by decide +kernel) (by decide +kernel)) (sb_cons (n := 3) hC.1 (tz_crS _ _) (xc_85 hC w1535 (by decide +kernel)) (sb_nil (tz_if _ _ _ _ _) (st_if_ne (off := 14) (by decide) (by decide) (by decide +kernel)))))))))
theorem xb171_8 (hC : z_HC l G d z_tb C) : z_SB "QuotaPeersModel" prog_13_method_89_code 5 false d G l C ((Option.some Jvm.ClassFile.FieldType.int)) xp171 72 xB171_8.1 xB171_8.2 := sb_cons (n := 1) hC.1 (tz_ldA _) (so_aload_n 0 (by decide +kernel)) (sb_cons (n := 3) hC.1 (tz_gR _ _) (xg_8_11 w1162 (by decide +kernel)) (sb_cons (n := 1) hC.1 (tz_ldI _) (so_iload_n 3 (by decide +kernel)) (sb_cons (n := 1) hC.1 (tz_aldI _) (so_iaload (by decide +kernel)) (sb_cons (n := 2) hC.1 (tz_cI _) (so_bipush (7) (7) (by decide +kernel) (by decide +kernel)) (sb_nil (tz_icmp _ _ _ _ _) (st_icmp_ne (off := 7) (by decide) (by decide) (by decide +kernel)))))))
theorem xb171_9 (hC : z_HC l G d z_tb C) : z_SB "QuotaPeersModel" prog_13_method_89_code 5 false d G l C ((Option.some Jvm.ClassFile.FieldType.int)) xp171 83 xB171_9.1 xB171_9.2 := sb_cons (n := 1) hC.1 (tz_cI _) (so_iconst (1) (1) (by decide +kernel) (by decide +kernel)) (sb_nil (tz_goto _ _) (st_goto (off := 4) (by decide) (by decide +kernel)))
theorem xb171_10 (hC : z_HC l G d z_tb C) : z_SB "QuotaPeersModel" prog_13_method_89_code 5 false d G l C ((Option.some Jvm.ClassFile.FieldType.int)) xp171 87 xB171_10.1 xB171_10.2 := sb_cons (n := 1) hC.1 (tz_cI _) (so_iconst (0) (0) (by decide +kernel) (by decide +kernel)) (sb_nil (tz_goto _ _) (st_fall (by decide)))
theorem xb171_11 (hC : z_HC l G d z_tb C) : z_SB "QuotaPeersModel" prog_13_method_89_code 5 false d G l C ((Option.some Jvm.ClassFile.FieldType.int)) xp171 88 xB171_11.1 xB171_11.2 := sb_cons (n := 2) hC.1 (tz_stI _) (so_istore 4 (by decide) (by decide +kernel)) (sb_cons (n := 2) hC.1 (tz_ldI _) (so_iload 4 (by decide +kernel)) (sb_nil (tz_if _ _ _ _ _) (st_if_eq (off := 24) (by decide) (by decide) (by decide +kernel))))
theorem xb171_12 (hC : z_HC l G d z_tb C) : z_SB "QuotaPeersModel" prog_13_method_89_code 5 false d G l C ((Option.some Jvm.ClassFile.FieldType.int)) xp171 95 xB171_12.1 xB171_12.2 := sb_cons (n := 1) hC.1 (tz_ldA _) (so_aload_n 0 (by decide +kernel)) (sb_cons (n := 3) hC.1 (tz_gR _ _) (xg_8_12 w1163 (by decide +kernel)) (sb_cons (n := 1) hC.1 (tz_ldI _) (so_iload_n 3 (by decide +kernel)) (sb_cons (n := 1) hC.1 (tz_aldI _) (so_iaload (by decide +kernel)) (sb_cons (n := 1) hC.1 (tz_ldA _) (so_aload_n 0 (by decide +kernel)) (sb_cons (n := 3) hC.1 (tz_gI _ _) (xg_8_1 w1152 (by decide +kernel)) (sb_nil (tz_icmp _ _ _ _ _) (st_icmp_gt (off := 11) (by decide) (by decide) (by decide +kernel))))))))
theorem xb171_13 (hC : z_HC l G d z_tb C) : z_SB "QuotaPeersModel" prog_13_method_89_code 5 false d G l C ((Option.some Jvm.ClassFile.FieldType.int)) xp171 108 xB171_13.1 xB171_13.2 := sb_cons (n := 1) hC.1 (tz_ldA _) (so_aload_n 0 (by decide +kernel)) (sb_cons (n := 1) hC.1 (tz_ldI _) (so_iload_n 3 (by decide +kernel)) (sb_cons (n := 3) hC.1 (tz_cvV _ _ _) (xc_130 hC w1658 (by decide +kernel)) (sb_cons (n := 3) hC.1 (tz_inc _ _) (so_iinc 2 (1) (1) (by decide +kernel) (by decide) (by decide +kernel)) (sb_nil (tz_goto _ _) (st_fall (by decide))))))
theorem xb171_14 (hC : z_HC l G d z_tb C) : z_SB "QuotaPeersModel" prog_13_method_89_code 5 false d G l C ((Option.some Jvm.ClassFile.FieldType.int)) xp171 116 xB171_14.1 xB171_14.2 := sb_cons (n := 1) hC.1 (tz_ldA _) (so_aload_n 0 (by decide +kernel)) (sb_cons (n := 3) hC.1 (tz_gR _ _) (xg_8_17 w1168 (by decide +kernel)) (sb_cons (n := 1) hC.1 (tz_ldI _) (so_iload_n 3 (by decide +kernel)) (sb_cons (n := 1) hC.1 (tz_aldI _) (so_iaload (by decide +kernel)) (sb_cons (n := 1) hC.1 (tz_ldA _) (so_aload_n 0 (by decide +kernel)) (sb_cons (n := 3) hC.1 (tz_gI _ _) (xg_8_1 w1152 (by decide +kernel)) (sb_nil (tz_icmp _ _ _ _ _) (st_icmp_gt (off := 11) (by decide) (by decide) (by decide +kernel))))))))
theorem xb171_15 (hC : z_HC l G d z_tb C) : z_SB "QuotaPeersModel" prog_13_method_89_code 5 false d G l C ((Option.some Jvm.ClassFile.FieldType.int)) xp171 129 xB171_15.1 xB171_15.2 := sb_cons (n := 1) hC.1 (tz_ldA _) (so_aload_n 0 (by decide +kernel)) (sb_cons (n := 1) hC.1 (tz_ldI _) (so_iload_n 3 (by decide +kernel)) (sb_cons (n := 3) hC.1 (tz_cvV _ _ _) (xc_170 hC w1781 (by decide +kernel)) (sb_cons (n := 3) hC.1 (tz_inc _ _) (so_iinc 2 (1) (1) (by decide +kernel) (by decide) (by decide +kernel)) (sb_nil (tz_goto _ _) (st_fall (by decide))))))
theorem xb171_16 (hC : z_HC l G d z_tb C) : z_SB "QuotaPeersModel" prog_13_method_89_code 5 false d G l C ((Option.some Jvm.ClassFile.FieldType.int)) xp171 137 xB171_16.1 xB171_16.2 := sb_cons (n := 3) hC.1 (tz_inc _ _) (so_iinc 3 (1) (1) (by decide +kernel) (by decide) (by decide +kernel)) (sb_nil (tz_goto _ _) (st_goto (off := -90) (by decide) (by decide +kernel)))
theorem xb171_17 (hC : z_HC l G d z_tb C) : z_SB "QuotaPeersModel" prog_13_method_89_code 5 false d G l C ((Option.some Jvm.ClassFile.FieldType.int)) xp171 143 xB171_17.1 xB171_17.2 := sb_cons (n := 1) hC.1 (tz_cI _) (so_iconst (0) (0) (by decide +kernel) (by decide +kernel)) (sb_cons (n := 1) hC.1 (tz_stI _) (so_istore_n 3 (by decide) (by decide +kernel)) (sb_nil (tz_goto _ _) (st_fall (by decide))))
theorem xb171_18 (hC : z_HC l G d z_tb C) : z_SB "QuotaPeersModel" prog_13_method_89_code 5 false d G l C ((Option.some Jvm.ClassFile.FieldType.int)) xp171 145 xB171_18.1 xB171_18.2 := sb_cons (n := 1) hC.1 (tz_ldI _) (so_iload_n 3 (by decide +kernel)) (sb_cons (n := 1) hC.1 (tz_ldA _) (so_aload_n 0 (by decide +kernel)) (sb_cons (n := 3) hC.1 (tz_gI _ _) (xg_8_40 w1191 (by decide +kernel)) (sb_nil (tz_icmp _ _ _ _ _) (st_icmp_ge (off := 53) (by decide) (by decide) (by decide +kernel)))))
theorem xb171_19 (hC : z_HC l G d z_tb C) : z_SB "QuotaPeersModel" prog_13_method_89_code 5 false d G l C ((Option.some Jvm.ClassFile.FieldType.int)) xp171 153 xB171_19.1 xB171_19.2 := sb_cons (n := 1) hC.1 (tz_ldA _) (so_aload_n 0 (by decide +kernel)) (sb_cons (n := 3) hC.1 (tz_gR _ _) (xg_8_48 w1199 (by decide +kernel)) (sb_cons (n := 1) hC.1 (tz_ldI _) (so_iload_n 3 (by decide +kernel)) (sb_cons (n := 1) hC.1 (tz_aldI _) (so_iaload (by decide +kernel)) (sb_cons (n := 1) hC.1 (tz_ldA _) (so_aload_n 0 (by decide +kernel)) (sb_cons (n := 3) hC.1 (tz_gI _ _) (xg_8_1 w1152 (by decide +kernel)) (sb_nil (tz_icmp _ _ _ _ _) (st_icmp_gt (off := 34) (by decide) (by decide) (by decide +kernel))))))))
theorem xb171_20 (hC : z_HC l G d z_tb C) : z_SB "QuotaPeersModel" prog_13_method_89_code 5 false d G l C ((Option.some Jvm.ClassFile.FieldType.int)) xp171 166 xB171_20.1 xB171_20.2 := sb_cons (n := 1) hC.1 (tz_ldA _) (so_aload_n 0 (by decide +kernel)) (sb_cons (n := 3) hC.1 (tz_gR _ _) (xg_8_38 w1189 (by decide +kernel)) (sb_cons (n := 1) hC.1 (tz_ldA _) (so_aload_n 0 (by decide +kernel)) (sb_cons (n := 3) hC.1 (tz_gR _ _) (xg_8_44 w1195 (by decide +kernel)) (sb_cons (n := 1) hC.1 (tz_ldI _) (so_iload_n 3 (by decide +kernel)) (sb_cons (n := 1) hC.1 (tz_aldI _) (so_iaload (by decide +kernel)) (sb_cons (n := 1) hC.1 (tz_dup2) (so_dup2 (by decide +kernel)) (sb_cons (n := 1) hC.1 (tz_aldJ) (so_laload (by decide +kernel)) (sb_cons (n := 1) hC.1 (tz_ldA _) (so_aload_n 0 (by decide +kernel)) (sb_cons (n := 3) hC.1 (tz_gR _ _) (xg_8_45 w1196 (by decide +kernel)) (sb_cons (n := 1) hC.1 (tz_ldI _) (so_iload_n 3 (by decide +kernel)) (sb_cons (n := 1) hC.1 (tz_aldJ) (so_laload (by decide +kernel)) (sb_cons (n := 1) hC.1 (tz_jj _) (so_lsub (by decide +kernel)) (sb_cons (n := 1) hC.1 (tz_astJ) (so_lastore (by decide +kernel)) (sb_cons (n := 1) hC.1 (tz_ldA _) (so_aload_n 0 (by decide +kernel)) (sb_cons (n := 1) hC.1 (tz_ldI _) (so_iload_n 3 (by decide +kernel)) (sb_cons (n := 3) hC.1 (tz_cvV _ _ _) (xc_140 hC w1749 (by decide +kernel)) (sb_cons (n := 3) hC.1 (tz_inc _ _) (so_iinc 2 (1) (1) (by decide +kernel) (by decide) (by decide +kernel)) (sb_nil (tz_goto _ _) (st_goto (off := -49) (by decide) (by decide +kernel))))))))))))))))))))
theorem xb171_21 (hC : z_HC l G d z_tb C) : z_SB "QuotaPeersModel" prog_13_method_89_code 5 false d G l C ((Option.some Jvm.ClassFile.FieldType.int)) xp171 197 xB171_21.1 xB171_21.2 := sb_cons (n := 3) hC.1 (tz_inc _ _) (so_iinc 3 (1) (1) (by decide +kernel) (by decide) (by decide +kernel)) (sb_nil (tz_goto _ _) (st_goto (off := -55) (by decide) (by decide +kernel)))
theorem xb171_22 (hC : z_HC l G d z_tb C) : z_SB "QuotaPeersModel" prog_13_method_89_code 5 false d G l C ((Option.some Jvm.ClassFile.FieldType.int)) xp171 203 xB171_22.1 xB171_22.2 := sb_nil (tz_goto _ _) (st_goto (off := -173) (by decide) (by decide +kernel))
theorem xb171_23 (hC : z_HC l G d z_tb C) : z_SB "QuotaPeersModel" prog_13_method_89_code 5 false d G l C ((Option.some Jvm.ClassFile.FieldType.int)) xp171 206 xB171_23.1 xB171_23.2 := sb_cons (n := 1) hC.1 (tz_ldI _) (so_iload_n 2 (by decide +kernel)) (sb_nil (tz_iret) (st_iret rfl (by decide +kernel)))
theorem xm171 (hC : z_HC l G d z_tb C) : z_SM "QuotaPeersModel" prog_13_method_89_code 5 false d G l C ((Option.some Jvm.ClassFile.FieldType.int)) xp171 xP171 := by
  intro b
  match b with
  | 0 => exact xb171_0 hC
  | 1 => exact xb171_1 hC
  | 2 => exact xb171_2 hC
  | 3 => exact xb171_3 hC
  | 4 => exact xb171_4 hC
  | 5 => exact xb171_5 hC
  | 6 => exact xb171_6 hC
  | 7 => exact xb171_7 hC
  | 8 => exact xb171_8 hC
  | 9 => exact xb171_9 hC
  | 10 => exact xb171_10 hC
  | 11 => exact xb171_11 hC
  | 12 => exact xb171_12 hC
  | 13 => exact xb171_13 hC
  | 14 => exact xb171_14 hC
  | 15 => exact xb171_15 hC
  | 16 => exact xb171_16 hC
  | 17 => exact xb171_17 hC
  | 18 => exact xb171_18 hC
  | 19 => exact xb171_19 hC
  | 20 => exact xb171_20 hC
  | 21 => exact xb171_21 hC
  | 22 => exact xb171_22 hC
  | 23 => exact xb171_23 hC
  | _ + 24 => exact sb_dead
end
/-! QuotaPeersModel.clock()I -/
def xB172_0 : List z_Op × z_Tm := ([zo_ldA 0, zo_cI (0), zo_pI 8 0, zo_ldA 0, zo_gI 8 1], zt_iret)
def xp172 : Nat → Nat := fun b => ([0] : List Nat).getD b 0
def xP172 : z_M := fun b => ([xB172_0] : List (List z_Op × z_Tm)).getD b z_dead
section
variable {d : Nat} {G : z_G} {l : Launch} {C : z_O}
theorem xb172_0 (hC : z_HC l G d z_tb C) : z_SB "QuotaPeersModel" prog_13_method_90_code 1 false d G l C ((Option.some Jvm.ClassFile.FieldType.int)) xp172 0 xB172_0.1 xB172_0.2 := sb_cons (n := 1) hC.1 (tz_ldA _) (so_aload_n 0 (by decide +kernel)) (sb_cons (n := 1) hC.1 (tz_cI _) (so_iconst (0) (0) (by decide +kernel) (by decide +kernel)) (sb_cons (n := 3) hC.1 (tz_pI _ _) (xp_8_0 w1151 (by decide +kernel)) (sb_cons (n := 1) hC.1 (tz_ldA _) (so_aload_n 0 (by decide +kernel)) (sb_cons (n := 3) hC.1 (tz_gI _ _) (xg_8_1 w1152 (by decide +kernel)) (sb_nil (tz_iret) (st_iret rfl (by decide +kernel)))))))
theorem xm172 (hC : z_HC l G d z_tb C) : z_SM "QuotaPeersModel" prog_13_method_90_code 1 false d G l C ((Option.some Jvm.ClassFile.FieldType.int)) xp172 xP172 := by
  intro b
  match b with
  | 0 => exact xb172_0 hC
  | _ + 1 => exact sb_dead
end
/-! QuotaPeersModel.take(I)I -/
def xB173_0 : List z_Op × z_Tm := ([zo_ldA 0, zo_cI (0), zo_pI 8 0, zo_ldI 1, zo_cI (1), zo_cI (8), zo_crS 85 3], zt_if (fun x => x = 0) 1 [false, false, false] 2 [true, true, false])
def xB173_1 : List z_Op × z_Tm := ([zo_cI (-1)], zt_iret)
def xB173_2 : List z_Op × z_Tm := ([zo_ldA 0, zo_gR 8 32, zo_ldI 1, zo_aldI 16], zt_if (fun x => x = 0) 3 [false, false, false] 4 [true, true, false])
def xB173_3 : List z_Op × z_Tm := ([zo_cI (-2)], zt_iret)
def xB173_4 : List z_Op × z_Tm := ([zo_ldA 0, zo_gR 8 31, zo_cI (2000), zo_ldI 1, zo_ii ((· * ·)), zo_ldA 0, zo_gR 8 33, zo_ldI 1, zo_aldI 16, zo_ii ((· + ·)), zo_aldI 17, zo_cI (255), zo_ii ((· &&& ·)), zo_stI 2, zo_ldA 0, zo_gR 8 33, zo_ldI 1, zo_ldA 0, zo_gR 8 33, zo_ldI 1, zo_aldI 16, zo_cI (1), zo_ii ((· + ·)), zo_cI (2000), zo_rem, zo_astI, zo_ldA 0, zo_gR 8 32, zo_ldI 1, zo_dup2, zo_aldI 16, zo_cI (1), zo_ii ((· - ·)), zo_astI, zo_ldI 2], zt_iret)
def xp173 : Nat → Nat := fun b => ([0, 15, 17, 26, 29] : List Nat).getD b 0
def xP173 : z_M := fun b => ([xB173_0, xB173_1, xB173_2, xB173_3, xB173_4] : List (List z_Op × z_Tm)).getD b z_dead
section
variable {d : Nat} {G : z_G} {l : Launch} {C : z_O}
theorem xb173_0 (hC : z_HC l G d z_tb C) : z_SB "QuotaPeersModel" prog_13_method_91_code 3 false d G l C ((Option.some Jvm.ClassFile.FieldType.int)) xp173 0 xB173_0.1 xB173_0.2 := sb_cons (n := 1) hC.1 (tz_ldA _) (so_aload_n 0 (by decide +kernel)) (sb_cons (n := 1) hC.1 (tz_cI _) (so_iconst (0) (0) (by decide +kernel) (by decide +kernel)) (sb_cons (n := 3) hC.1 (tz_pI _ _) (xp_8_0 w1151 (by decide +kernel)) (sb_cons (n := 1) hC.1 (tz_ldI _) (so_iload_n 1 (by decide +kernel)) (sb_cons (n := 1) hC.1 (tz_cI _) (so_iconst (1) (1) (by decide +kernel) (by decide +kernel)) (sb_cons (n := 2) hC.1 (tz_cI _) (so_bipush (8) (8) (by decide +kernel) (by decide +kernel)) (sb_cons (n := 3) hC.1 (tz_crS _ _) (xc_85 hC w1535 (by decide +kernel)) (sb_nil (tz_if _ _ _ _ _) (st_if_ne (off := 5) (by decide) (by decide) (by decide +kernel)))))))))
theorem xb173_1 (hC : z_HC l G d z_tb C) : z_SB "QuotaPeersModel" prog_13_method_91_code 3 false d G l C ((Option.some Jvm.ClassFile.FieldType.int)) xp173 15 xB173_1.1 xB173_1.2 := sb_cons (n := 1) hC.1 (tz_cI _) (so_iconst (-1) (-1) (by decide +kernel) (by decide +kernel)) (sb_nil (tz_iret) (st_iret rfl (by decide +kernel)))
theorem xb173_2 (hC : z_HC l G d z_tb C) : z_SB "QuotaPeersModel" prog_13_method_91_code 3 false d G l C ((Option.some Jvm.ClassFile.FieldType.int)) xp173 17 xB173_2.1 xB173_2.2 := sb_cons (n := 1) hC.1 (tz_ldA _) (so_aload_n 0 (by decide +kernel)) (sb_cons (n := 3) hC.1 (tz_gR _ _) (xg_8_32 w1183 (by decide +kernel)) (sb_cons (n := 1) hC.1 (tz_ldI _) (so_iload_n 1 (by decide +kernel)) (sb_cons (n := 1) hC.1 (tz_aldI _) (so_iaload (by decide +kernel)) (sb_nil (tz_if _ _ _ _ _) (st_if_ne (off := 6) (by decide) (by decide) (by decide +kernel))))))
theorem xb173_3 (hC : z_HC l G d z_tb C) : z_SB "QuotaPeersModel" prog_13_method_91_code 3 false d G l C ((Option.some Jvm.ClassFile.FieldType.int)) xp173 26 xB173_3.1 xB173_3.2 := sb_cons (n := 2) hC.1 (tz_cI _) (so_bipush (-2) (-2) (by decide +kernel) (by decide +kernel)) (sb_nil (tz_iret) (st_iret rfl (by decide +kernel)))
theorem xb173_4 (hC : z_HC l G d z_tb C) : z_SB "QuotaPeersModel" prog_13_method_91_code 3 false d G l C ((Option.some Jvm.ClassFile.FieldType.int)) xp173 29 xB173_4.1 xB173_4.2 := sb_cons (n := 1) hC.1 (tz_ldA _) (so_aload_n 0 (by decide +kernel)) (sb_cons (n := 3) hC.1 (tz_gR _ _) (xg_8_31 w1182 (by decide +kernel)) (sb_cons (n := 3) hC.1 (tz_cI _) (so_sipush (2000) (2000) (by decide +kernel) (by decide +kernel)) (sb_cons (n := 1) hC.1 (tz_ldI _) (so_iload_n 1 (by decide +kernel)) (sb_cons (n := 1) hC.1 (tz_ii _) (so_imul (by decide +kernel)) (sb_cons (n := 1) hC.1 (tz_ldA _) (so_aload_n 0 (by decide +kernel)) (sb_cons (n := 3) hC.1 (tz_gR _ _) (xg_8_33 w1184 (by decide +kernel)) (sb_cons (n := 1) hC.1 (tz_ldI _) (so_iload_n 1 (by decide +kernel)) (sb_cons (n := 1) hC.1 (tz_aldI _) (so_iaload (by decide +kernel)) (sb_cons (n := 1) hC.1 (tz_ii _) (so_iadd (by decide +kernel)) (sb_cons (n := 1) hC.1 (tz_aldI _) (so_baload (by decide +kernel)) (sb_cons (n := 3) hC.1 (tz_cI _) (so_sipush (255) (255) (by decide +kernel) (by decide +kernel)) (sb_cons (n := 1) hC.1 (tz_ii _) (so_iand (by decide +kernel)) (sb_cons (n := 1) hC.1 (tz_stI _) (so_istore_n 2 (by decide) (by decide +kernel)) (sb_cons (n := 1) hC.1 (tz_ldA _) (so_aload_n 0 (by decide +kernel)) (sb_cons (n := 3) hC.1 (tz_gR _ _) (xg_8_33 w1184 (by decide +kernel)) (sb_cons (n := 1) hC.1 (tz_ldI _) (so_iload_n 1 (by decide +kernel)) (sb_cons (n := 1) hC.1 (tz_ldA _) (so_aload_n 0 (by decide +kernel)) (sb_cons (n := 3) hC.1 (tz_gR _ _) (xg_8_33 w1184 (by decide +kernel)) (sb_cons (n := 1) hC.1 (tz_ldI _) (so_iload_n 1 (by decide +kernel)) (sb_cons (n := 1) hC.1 (tz_aldI _) (so_iaload (by decide +kernel)) (sb_cons (n := 1) hC.1 (tz_cI _) (so_iconst (1) (1) (by decide +kernel) (by decide +kernel)) (sb_cons (n := 1) hC.1 (tz_ii _) (so_iadd (by decide +kernel)) (sb_cons (n := 3) hC.1 (tz_cI _) (so_sipush (2000) (2000) (by decide +kernel) (by decide +kernel)) (sb_cons (n := 1) hC.1 (tz_rem) (so_irem (by decide +kernel)) (sb_cons (n := 1) hC.1 (tz_astI) (so_iastore (by decide +kernel)) (sb_cons (n := 1) hC.1 (tz_ldA _) (so_aload_n 0 (by decide +kernel)) (sb_cons (n := 3) hC.1 (tz_gR _ _) (xg_8_32 w1183 (by decide +kernel)) (sb_cons (n := 1) hC.1 (tz_ldI _) (so_iload_n 1 (by decide +kernel)) (sb_cons (n := 1) hC.1 (tz_dup2) (so_dup2 (by decide +kernel)) (sb_cons (n := 1) hC.1 (tz_aldI _) (so_iaload (by decide +kernel)) (sb_cons (n := 1) hC.1 (tz_cI _) (so_iconst (1) (1) (by decide +kernel) (by decide +kernel)) (sb_cons (n := 1) hC.1 (tz_ii _) (so_isub (by decide +kernel)) (sb_cons (n := 1) hC.1 (tz_astI) (so_iastore (by decide +kernel)) (sb_cons (n := 1) hC.1 (tz_ldI _) (so_iload_n 2 (by decide +kernel)) (sb_nil (tz_iret) (st_iret rfl (by decide +kernel)))))))))))))))))))))))))))))))))))))
theorem xm173 (hC : z_HC l G d z_tb C) : z_SM "QuotaPeersModel" prog_13_method_91_code 3 false d G l C ((Option.some Jvm.ClassFile.FieldType.int)) xp173 xP173 := by
  intro b
  match b with
  | 0 => exact xb173_0 hC
  | 1 => exact xb173_1 hC
  | 2 => exact xb173_2 hC
  | 3 => exact xb173_3 hC
  | 4 => exact xb173_4 hC
  | _ + 5 => exact sb_dead
end
/-! QuotaPeersModel.waiting(I)I -/
def xB174_0 : List z_Op × z_Tm := ([zo_ldA 0, zo_cI (0), zo_pI 8 0, zo_ldI 1, zo_cI (1), zo_cI (8), zo_crS 85 3], zt_if (fun x => x = 0) 2 [false, false] 1 [true, true])
def xB174_1 : List z_Op × z_Tm := ([zo_ldA 0, zo_gR 8 32, zo_ldI 1, zo_aldI 16], zt_goto 3 [false, false])
def xB174_2 : List z_Op × z_Tm := ([zo_cI (-1)], zt_goto 3 [false, false])
def xB174_3 : List z_Op × z_Tm := ([], zt_iret)
def xp174 : Nat → Nat := fun b => ([0, 15, 24, 25] : List Nat).getD b 0
def xP174 : z_M := fun b => ([xB174_0, xB174_1, xB174_2, xB174_3] : List (List z_Op × z_Tm)).getD b z_dead
section
variable {d : Nat} {G : z_G} {l : Launch} {C : z_O}
theorem xb174_0 (hC : z_HC l G d z_tb C) : z_SB "QuotaPeersModel" prog_13_method_92_code 2 false d G l C ((Option.some Jvm.ClassFile.FieldType.int)) xp174 0 xB174_0.1 xB174_0.2 := sb_cons (n := 1) hC.1 (tz_ldA _) (so_aload_n 0 (by decide +kernel)) (sb_cons (n := 1) hC.1 (tz_cI _) (so_iconst (0) (0) (by decide +kernel) (by decide +kernel)) (sb_cons (n := 3) hC.1 (tz_pI _ _) (xp_8_0 w1151 (by decide +kernel)) (sb_cons (n := 1) hC.1 (tz_ldI _) (so_iload_n 1 (by decide +kernel)) (sb_cons (n := 1) hC.1 (tz_cI _) (so_iconst (1) (1) (by decide +kernel) (by decide +kernel)) (sb_cons (n := 2) hC.1 (tz_cI _) (so_bipush (8) (8) (by decide +kernel) (by decide +kernel)) (sb_cons (n := 3) hC.1 (tz_crS _ _) (xc_85 hC w1535 (by decide +kernel)) (sb_nil (tz_if _ _ _ _ _) (st_if_eq (off := 12) (by decide) (by decide) (by decide +kernel)))))))))
theorem xb174_1 (hC : z_HC l G d z_tb C) : z_SB "QuotaPeersModel" prog_13_method_92_code 2 false d G l C ((Option.some Jvm.ClassFile.FieldType.int)) xp174 15 xB174_1.1 xB174_1.2 := sb_cons (n := 1) hC.1 (tz_ldA _) (so_aload_n 0 (by decide +kernel)) (sb_cons (n := 3) hC.1 (tz_gR _ _) (xg_8_32 w1183 (by decide +kernel)) (sb_cons (n := 1) hC.1 (tz_ldI _) (so_iload_n 1 (by decide +kernel)) (sb_cons (n := 1) hC.1 (tz_aldI _) (so_iaload (by decide +kernel)) (sb_nil (tz_goto _ _) (st_goto (off := 4) (by decide) (by decide +kernel))))))
theorem xb174_2 (hC : z_HC l G d z_tb C) : z_SB "QuotaPeersModel" prog_13_method_92_code 2 false d G l C ((Option.some Jvm.ClassFile.FieldType.int)) xp174 24 xB174_2.1 xB174_2.2 := sb_cons (n := 1) hC.1 (tz_cI _) (so_iconst (-1) (-1) (by decide +kernel) (by decide +kernel)) (sb_nil (tz_goto _ _) (st_fall (by decide)))
theorem xb174_3 (hC : z_HC l G d z_tb C) : z_SB "QuotaPeersModel" prog_13_method_92_code 2 false d G l C ((Option.some Jvm.ClassFile.FieldType.int)) xp174 25 xB174_3.1 xB174_3.2 := sb_nil (tz_iret) (st_iret rfl (by decide +kernel))
theorem xm174 (hC : z_HC l G d z_tb C) : z_SM "QuotaPeersModel" prog_13_method_92_code 2 false d G l C ((Option.some Jvm.ClassFile.FieldType.int)) xp174 xP174 := by
  intro b
  match b with
  | 0 => exact xb174_0 hC
  | 1 => exact xb174_1 hC
  | 2 => exact xb174_2 hC
  | 3 => exact xb174_3 hC
  | _ + 4 => exact sb_dead
end
/-! QuotaPeersModel.connection(II)I -/
def xB175_0 : List z_Op × z_Tm := ([zo_ldA 0, zo_cI (0), zo_pI 8 0, zo_ldI 1, zo_cI (1), zo_cI (8), zo_crS 85 3], zt_if (fun x => x = 0) 1 [false, false, false] 2 [true, true, true])
def xB175_1 : List z_Op × z_Tm := ([zo_cI (-1)], zt_iret)
def xB175_2 : List z_Op × z_Tm := ([zo_ldI 2], zt_sw [(0, 3, [true, true, false]), (1, 4, [true, true, false]), (2, 5, [true, true, false]), (3, 6, [true, true, false])] (7, [false, false, false]))
def xB175_3 : List z_Op × z_Tm := ([zo_ldA 0, zo_gR 8 26, zo_ldI 1, zo_aldI 16], zt_iret)
def xB175_4 : List z_Op × z_Tm := ([zo_ldA 0, zo_gR 8 27, zo_ldI 1, zo_aldI 16], zt_iret)
def xB175_5 : List z_Op × z_Tm := ([zo_ldA 0, zo_gR 8 28, zo_ldI 1, zo_aldI 16], zt_iret)
def xB175_6 : List z_Op × z_Tm := ([zo_ldA 0, zo_gR 8 30, zo_ldI 1, zo_aldI 16], zt_iret)
def xB175_7 : List z_Op × z_Tm := ([zo_cI (-2)], zt_iret)
def xp175 : Nat → Nat := fun b => ([0, 15, 17, 48, 55, 62, 69, 76] : List Nat).getD b 0
def xP175 : z_M := fun b => ([xB175_0, xB175_1, xB175_2, xB175_3, xB175_4, xB175_5, xB175_6, xB175_7] : List (List z_Op × z_Tm)).getD b z_dead
section
variable {d : Nat} {G : z_G} {l : Launch} {C : z_O}
theorem xb175_0 (hC : z_HC l G d z_tb C) : z_SB "QuotaPeersModel" prog_13_method_93_code 3 false d G l C ((Option.some Jvm.ClassFile.FieldType.int)) xp175 0 xB175_0.1 xB175_0.2 := sb_cons (n := 1) hC.1 (tz_ldA _) (so_aload_n 0 (by decide +kernel)) (sb_cons (n := 1) hC.1 (tz_cI _) (so_iconst (0) (0) (by decide +kernel) (by decide +kernel)) (sb_cons (n := 3) hC.1 (tz_pI _ _) (xp_8_0 w1151 (by decide +kernel)) (sb_cons (n := 1) hC.1 (tz_ldI _) (so_iload_n 1 (by decide +kernel)) (sb_cons (n := 1) hC.1 (tz_cI _) (so_iconst (1) (1) (by decide +kernel) (by decide +kernel)) (sb_cons (n := 2) hC.1 (tz_cI _) (so_bipush (8) (8) (by decide +kernel) (by decide +kernel)) (sb_cons (n := 3) hC.1 (tz_crS _ _) (xc_85 hC w1535 (by decide +kernel)) (sb_nil (tz_if _ _ _ _ _) (st_if_ne (off := 5) (by decide) (by decide) (by decide +kernel)))))))))
theorem xb175_1 (hC : z_HC l G d z_tb C) : z_SB "QuotaPeersModel" prog_13_method_93_code 3 false d G l C ((Option.some Jvm.ClassFile.FieldType.int)) xp175 15 xB175_1.1 xB175_1.2 := sb_cons (n := 1) hC.1 (tz_cI _) (so_iconst (-1) (-1) (by decide +kernel) (by decide +kernel)) (sb_nil (tz_iret) (st_iret rfl (by decide +kernel)))
theorem xb175_2 (hC : z_HC l G d z_tb C) : z_SB "QuotaPeersModel" prog_13_method_93_code 3 false d G l C ((Option.some Jvm.ClassFile.FieldType.int)) xp175 17 xB175_2.1 xB175_2.2 := sb_cons (n := 1) hC.1 (tz_ldI _) (so_iload_n 2 (by decide +kernel)) (sb_nil (tz_sw _ _) (st_table (dflt := 58) (lo := 0) (hi := 3) (offs := #[30, 37, 44, 51]) (len := 30) (by decide +kernel) (by decide) (by decide +kernel)))
theorem xb175_3 (hC : z_HC l G d z_tb C) : z_SB "QuotaPeersModel" prog_13_method_93_code 3 false d G l C ((Option.some Jvm.ClassFile.FieldType.int)) xp175 48 xB175_3.1 xB175_3.2 := sb_cons (n := 1) hC.1 (tz_ldA _) (so_aload_n 0 (by decide +kernel)) (sb_cons (n := 3) hC.1 (tz_gR _ _) (xg_8_26 w1177 (by decide +kernel)) (sb_cons (n := 1) hC.1 (tz_ldI _) (so_iload_n 1 (by decide +kernel)) (sb_cons (n := 1) hC.1 (tz_aldI _) (so_iaload (by decide +kernel)) (sb_nil (tz_iret) (st_iret rfl (by decide +kernel))))))
theorem xb175_4 (hC : z_HC l G d z_tb C) : z_SB "QuotaPeersModel" prog_13_method_93_code 3 false d G l C ((Option.some Jvm.ClassFile.FieldType.int)) xp175 55 xB175_4.1 xB175_4.2 := sb_cons (n := 1) hC.1 (tz_ldA _) (so_aload_n 0 (by decide +kernel)) (sb_cons (n := 3) hC.1 (tz_gR _ _) (xg_8_27 w1178 (by decide +kernel)) (sb_cons (n := 1) hC.1 (tz_ldI _) (so_iload_n 1 (by decide +kernel)) (sb_cons (n := 1) hC.1 (tz_aldI _) (so_iaload (by decide +kernel)) (sb_nil (tz_iret) (st_iret rfl (by decide +kernel))))))
theorem xb175_5 (hC : z_HC l G d z_tb C) : z_SB "QuotaPeersModel" prog_13_method_93_code 3 false d G l C ((Option.some Jvm.ClassFile.FieldType.int)) xp175 62 xB175_5.1 xB175_5.2 := sb_cons (n := 1) hC.1 (tz_ldA _) (so_aload_n 0 (by decide +kernel)) (sb_cons (n := 3) hC.1 (tz_gR _ _) (xg_8_28 w1179 (by decide +kernel)) (sb_cons (n := 1) hC.1 (tz_ldI _) (so_iload_n 1 (by decide +kernel)) (sb_cons (n := 1) hC.1 (tz_aldI _) (so_iaload (by decide +kernel)) (sb_nil (tz_iret) (st_iret rfl (by decide +kernel))))))
theorem xb175_6 (hC : z_HC l G d z_tb C) : z_SB "QuotaPeersModel" prog_13_method_93_code 3 false d G l C ((Option.some Jvm.ClassFile.FieldType.int)) xp175 69 xB175_6.1 xB175_6.2 := sb_cons (n := 1) hC.1 (tz_ldA _) (so_aload_n 0 (by decide +kernel)) (sb_cons (n := 3) hC.1 (tz_gR _ _) (xg_8_30 w1181 (by decide +kernel)) (sb_cons (n := 1) hC.1 (tz_ldI _) (so_iload_n 1 (by decide +kernel)) (sb_cons (n := 1) hC.1 (tz_aldI _) (so_iaload (by decide +kernel)) (sb_nil (tz_iret) (st_iret rfl (by decide +kernel))))))
theorem xb175_7 (hC : z_HC l G d z_tb C) : z_SB "QuotaPeersModel" prog_13_method_93_code 3 false d G l C ((Option.some Jvm.ClassFile.FieldType.int)) xp175 76 xB175_7.1 xB175_7.2 := sb_cons (n := 2) hC.1 (tz_cI _) (so_bipush (-2) (-2) (by decide +kernel) (by decide +kernel)) (sb_nil (tz_iret) (st_iret rfl (by decide +kernel)))
theorem xm175 (hC : z_HC l G d z_tb C) : z_SM "QuotaPeersModel" prog_13_method_93_code 3 false d G l C ((Option.some Jvm.ClassFile.FieldType.int)) xp175 xP175 := by
  intro b
  match b with
  | 0 => exact xb175_0 hC
  | 1 => exact xb175_1 hC
  | 2 => exact xb175_2 hC
  | 3 => exact xb175_3 hC
  | 4 => exact xb175_4 hC
  | 5 => exact xb175_5 hC
  | 6 => exact xb175_6 hC
  | 7 => exact xb175_7 hC
  | _ + 8 => exact sb_dead
end
/-! QuotaPeersModel.state(II)I -/
def xB176_0 : List z_Op × z_Tm := ([zo_ldA 0, zo_cI (0), zo_pI 8 0, zo_ldA 0, zo_ldI 1, zo_crV 162 1 8], zt_if (fun x => x = 0) 2 [true, true, true, false] 1 [false, false, false, false])
def xB176_1 : List z_Op × z_Tm := ([zo_cI (-1)], zt_iret)
def xB176_2 : List z_Op × z_Tm := ([zo_ldI 1, zo_cI (1), zo_ii ((· - ·)), zo_stI 3, zo_ldI 2], zt_sw [(0, 3, [true, false, false, true]), (1, 4, [true, false, false, true]), (2, 5, [true, false, false, true]), (3, 6, [true, false, false, true]), (4, 7, [true, false, false, true]), (5, 11, [true, false, false, true]), (6, 12, [true, false, false, true]), (7, 13, [true, false, false, true])] (14, [false, false, false, false]))
def xB176_3 : List z_Op × z_Tm := ([zo_ldA 0, zo_gR 8 11, zo_ldI 3, zo_aldI 16], zt_iret)
def xB176_4 : List z_Op × z_Tm := ([zo_ldA 0, zo_gR 8 13, zo_ldI 3, zo_aldI 16], zt_iret)
def xB176_5 : List z_Op × z_Tm := ([zo_ldA 0, zo_gR 8 14, zo_ldI 3, zo_aldI 16], zt_iret)
def xB176_6 : List z_Op × z_Tm := ([zo_ldA 0, zo_gR 8 15, zo_ldI 3, zo_aldI 16], zt_iret)
def xB176_7 : List z_Op × z_Tm := ([zo_ldA 0, zo_gR 8 16, zo_ldI 3, zo_aldI 18], zt_if (fun x => x = 0) 9 [false, false, false, false] 8 [false, false, false, false])
def xB176_8 : List z_Op × z_Tm := ([zo_cI (1)], zt_goto 10 [false, false, false, false])
def xB176_9 : List z_Op × z_Tm := ([zo_cI (0)], zt_goto 10 [false, false, false, false])
def xB176_10 : List z_Op × z_Tm := ([], zt_iret)
def xB176_11 : List z_Op × z_Tm := ([zo_ldA 0, zo_gR 8 17, zo_ldI 3, zo_aldI 16], zt_iret)
def xB176_12 : List z_Op × z_Tm := ([zo_ldA 0, zo_gR 8 18, zo_ldI 3, zo_aldI 16], zt_iret)
def xB176_13 : List z_Op × z_Tm := ([zo_ldA 0, zo_gR 8 19, zo_ldI 3, zo_aldI 16], zt_iret)
def xB176_14 : List z_Op × z_Tm := ([zo_cI (-2)], zt_iret)
def xp176 : Nat → Nat := fun b => ([0, 13, 15, 68, 75, 82, 89, 96, 105, 109, 110, 111, 118, 125, 132] : List Nat).getD b 0
def xP176 : z_M := fun b => ([xB176_0, xB176_1, xB176_2, xB176_3, xB176_4, xB176_5, xB176_6, xB176_7, xB176_8, xB176_9, xB176_10, xB176_11, xB176_12, xB176_13, xB176_14] : List (List z_Op × z_Tm)).getD b z_dead
section
variable {d : Nat} {G : z_G} {l : Launch} {C : z_O}
theorem xb176_0 (hC : z_HC l G d z_tb C) : z_SB "QuotaPeersModel" prog_13_method_94_code 4 false d G l C ((Option.some Jvm.ClassFile.FieldType.int)) xp176 0 xB176_0.1 xB176_0.2 := sb_cons (n := 1) hC.1 (tz_ldA _) (so_aload_n 0 (by decide +kernel)) (sb_cons (n := 1) hC.1 (tz_cI _) (so_iconst (0) (0) (by decide +kernel) (by decide +kernel)) (sb_cons (n := 3) hC.1 (tz_pI _ _) (xp_8_0 w1151 (by decide +kernel)) (sb_cons (n := 1) hC.1 (tz_ldA _) (so_aload_n 0 (by decide +kernel)) (sb_cons (n := 1) hC.1 (tz_ldI _) (so_iload_n 1 (by decide +kernel)) (sb_cons (n := 3) hC.1 (tz_crV _ _ _) (xc_162 hC w1449 (by decide +kernel)) (sb_nil (tz_if _ _ _ _ _) (st_if_eq (off := 5) (by decide) (by decide) (by decide +kernel))))))))
theorem xb176_1 (hC : z_HC l G d z_tb C) : z_SB "QuotaPeersModel" prog_13_method_94_code 4 false d G l C ((Option.some Jvm.ClassFile.FieldType.int)) xp176 13 xB176_1.1 xB176_1.2 := sb_cons (n := 1) hC.1 (tz_cI _) (so_iconst (-1) (-1) (by decide +kernel) (by decide +kernel)) (sb_nil (tz_iret) (st_iret rfl (by decide +kernel)))
theorem xb176_2 (hC : z_HC l G d z_tb C) : z_SB "QuotaPeersModel" prog_13_method_94_code 4 false d G l C ((Option.some Jvm.ClassFile.FieldType.int)) xp176 15 xB176_2.1 xB176_2.2 := sb_cons (n := 1) hC.1 (tz_ldI _) (so_iload_n 1 (by decide +kernel)) (sb_cons (n := 1) hC.1 (tz_cI _) (so_iconst (1) (1) (by decide +kernel) (by decide +kernel)) (sb_cons (n := 1) hC.1 (tz_ii _) (so_isub (by decide +kernel)) (sb_cons (n := 1) hC.1 (tz_stI _) (so_istore_n 3 (by decide) (by decide +kernel)) (sb_cons (n := 1) hC.1 (tz_ldI _) (so_iload_n 2 (by decide +kernel)) (sb_nil (tz_sw _ _) (st_table (dflt := 112) (lo := 0) (hi := 7) (offs := #[48, 55, 62, 69, 76, 91, 98, 105]) (len := 48) (by decide +kernel) (by decide) (by decide +kernel)))))))
theorem xb176_3 (hC : z_HC l G d z_tb C) : z_SB "QuotaPeersModel" prog_13_method_94_code 4 false d G l C ((Option.some Jvm.ClassFile.FieldType.int)) xp176 68 xB176_3.1 xB176_3.2 := sb_cons (n := 1) hC.1 (tz_ldA _) (so_aload_n 0 (by decide +kernel)) (sb_cons (n := 3) hC.1 (tz_gR _ _) (xg_8_11 w1162 (by decide +kernel)) (sb_cons (n := 1) hC.1 (tz_ldI _) (so_iload_n 3 (by decide +kernel)) (sb_cons (n := 1) hC.1 (tz_aldI _) (so_iaload (by decide +kernel)) (sb_nil (tz_iret) (st_iret rfl (by decide +kernel))))))
theorem xb176_4 (hC : z_HC l G d z_tb C) : z_SB "QuotaPeersModel" prog_13_method_94_code 4 false d G l C ((Option.some Jvm.ClassFile.FieldType.int)) xp176 75 xB176_4.1 xB176_4.2 := sb_cons (n := 1) hC.1 (tz_ldA _) (so_aload_n 0 (by decide +kernel)) (sb_cons (n := 3) hC.1 (tz_gR _ _) (xg_8_13 w1164 (by decide +kernel)) (sb_cons (n := 1) hC.1 (tz_ldI _) (so_iload_n 3 (by decide +kernel)) (sb_cons (n := 1) hC.1 (tz_aldI _) (so_iaload (by decide +kernel)) (sb_nil (tz_iret) (st_iret rfl (by decide +kernel))))))
theorem xb176_5 (hC : z_HC l G d z_tb C) : z_SB "QuotaPeersModel" prog_13_method_94_code 4 false d G l C ((Option.some Jvm.ClassFile.FieldType.int)) xp176 82 xB176_5.1 xB176_5.2 := sb_cons (n := 1) hC.1 (tz_ldA _) (so_aload_n 0 (by decide +kernel)) (sb_cons (n := 3) hC.1 (tz_gR _ _) (xg_8_14 w1165 (by decide +kernel)) (sb_cons (n := 1) hC.1 (tz_ldI _) (so_iload_n 3 (by decide +kernel)) (sb_cons (n := 1) hC.1 (tz_aldI _) (so_iaload (by decide +kernel)) (sb_nil (tz_iret) (st_iret rfl (by decide +kernel))))))
theorem xb176_6 (hC : z_HC l G d z_tb C) : z_SB "QuotaPeersModel" prog_13_method_94_code 4 false d G l C ((Option.some Jvm.ClassFile.FieldType.int)) xp176 89 xB176_6.1 xB176_6.2 := sb_cons (n := 1) hC.1 (tz_ldA _) (so_aload_n 0 (by decide +kernel)) (sb_cons (n := 3) hC.1 (tz_gR _ _) (xg_8_15 w1166 (by decide +kernel)) (sb_cons (n := 1) hC.1 (tz_ldI _) (so_iload_n 3 (by decide +kernel)) (sb_cons (n := 1) hC.1 (tz_aldI _) (so_iaload (by decide +kernel)) (sb_nil (tz_iret) (st_iret rfl (by decide +kernel))))))
theorem xb176_7 (hC : z_HC l G d z_tb C) : z_SB "QuotaPeersModel" prog_13_method_94_code 4 false d G l C ((Option.some Jvm.ClassFile.FieldType.int)) xp176 96 xB176_7.1 xB176_7.2 := sb_cons (n := 1) hC.1 (tz_ldA _) (so_aload_n 0 (by decide +kernel)) (sb_cons (n := 3) hC.1 (tz_gR _ _) (xg_8_16 w1167 (by decide +kernel)) (sb_cons (n := 1) hC.1 (tz_ldI _) (so_iload_n 3 (by decide +kernel)) (sb_cons (n := 1) hC.1 (tz_aldI _) (so_zaload (by decide +kernel)) (sb_nil (tz_if _ _ _ _ _) (st_if_eq (off := 7) (by decide) (by decide) (by decide +kernel))))))
theorem xb176_8 (hC : z_HC l G d z_tb C) : z_SB "QuotaPeersModel" prog_13_method_94_code 4 false d G l C ((Option.some Jvm.ClassFile.FieldType.int)) xp176 105 xB176_8.1 xB176_8.2 := sb_cons (n := 1) hC.1 (tz_cI _) (so_iconst (1) (1) (by decide +kernel) (by decide +kernel)) (sb_nil (tz_goto _ _) (st_goto (off := 4) (by decide) (by decide +kernel)))
theorem xb176_9 (hC : z_HC l G d z_tb C) : z_SB "QuotaPeersModel" prog_13_method_94_code 4 false d G l C ((Option.some Jvm.ClassFile.FieldType.int)) xp176 109 xB176_9.1 xB176_9.2 := sb_cons (n := 1) hC.1 (tz_cI _) (so_iconst (0) (0) (by decide +kernel) (by decide +kernel)) (sb_nil (tz_goto _ _) (st_fall (by decide)))
theorem xb176_10 (hC : z_HC l G d z_tb C) : z_SB "QuotaPeersModel" prog_13_method_94_code 4 false d G l C ((Option.some Jvm.ClassFile.FieldType.int)) xp176 110 xB176_10.1 xB176_10.2 := sb_nil (tz_iret) (st_iret rfl (by decide +kernel))
theorem xb176_11 (hC : z_HC l G d z_tb C) : z_SB "QuotaPeersModel" prog_13_method_94_code 4 false d G l C ((Option.some Jvm.ClassFile.FieldType.int)) xp176 111 xB176_11.1 xB176_11.2 := sb_cons (n := 1) hC.1 (tz_ldA _) (so_aload_n 0 (by decide +kernel)) (sb_cons (n := 3) hC.1 (tz_gR _ _) (xg_8_17 w1168 (by decide +kernel)) (sb_cons (n := 1) hC.1 (tz_ldI _) (so_iload_n 3 (by decide +kernel)) (sb_cons (n := 1) hC.1 (tz_aldI _) (so_iaload (by decide +kernel)) (sb_nil (tz_iret) (st_iret rfl (by decide +kernel))))))
theorem xb176_12 (hC : z_HC l G d z_tb C) : z_SB "QuotaPeersModel" prog_13_method_94_code 4 false d G l C ((Option.some Jvm.ClassFile.FieldType.int)) xp176 118 xB176_12.1 xB176_12.2 := sb_cons (n := 1) hC.1 (tz_ldA _) (so_aload_n 0 (by decide +kernel)) (sb_cons (n := 3) hC.1 (tz_gR _ _) (xg_8_18 w1169 (by decide +kernel)) (sb_cons (n := 1) hC.1 (tz_ldI _) (so_iload_n 3 (by decide +kernel)) (sb_cons (n := 1) hC.1 (tz_aldI _) (so_iaload (by decide +kernel)) (sb_nil (tz_iret) (st_iret rfl (by decide +kernel))))))
theorem xb176_13 (hC : z_HC l G d z_tb C) : z_SB "QuotaPeersModel" prog_13_method_94_code 4 false d G l C ((Option.some Jvm.ClassFile.FieldType.int)) xp176 125 xB176_13.1 xB176_13.2 := sb_cons (n := 1) hC.1 (tz_ldA _) (so_aload_n 0 (by decide +kernel)) (sb_cons (n := 3) hC.1 (tz_gR _ _) (xg_8_19 w1170 (by decide +kernel)) (sb_cons (n := 1) hC.1 (tz_ldI _) (so_iload_n 3 (by decide +kernel)) (sb_cons (n := 1) hC.1 (tz_aldI _) (so_iaload (by decide +kernel)) (sb_nil (tz_iret) (st_iret rfl (by decide +kernel))))))
theorem xb176_14 (hC : z_HC l G d z_tb C) : z_SB "QuotaPeersModel" prog_13_method_94_code 4 false d G l C ((Option.some Jvm.ClassFile.FieldType.int)) xp176 132 xB176_14.1 xB176_14.2 := sb_cons (n := 2) hC.1 (tz_cI _) (so_bipush (-2) (-2) (by decide +kernel) (by decide +kernel)) (sb_nil (tz_iret) (st_iret rfl (by decide +kernel)))
theorem xm176 (hC : z_HC l G d z_tb C) : z_SM "QuotaPeersModel" prog_13_method_94_code 4 false d G l C ((Option.some Jvm.ClassFile.FieldType.int)) xp176 xP176 := by
  intro b
  match b with
  | 0 => exact xb176_0 hC
  | 1 => exact xb176_1 hC
  | 2 => exact xb176_2 hC
  | 3 => exact xb176_3 hC
  | 4 => exact xb176_4 hC
  | 5 => exact xb176_5 hC
  | 6 => exact xb176_6 hC
  | 7 => exact xb176_7 hC
  | 8 => exact xb176_8 hC
  | 9 => exact xb176_9 hC
  | 10 => exact xb176_10 hC
  | 11 => exact xb176_11 hC
  | 12 => exact xb176_12 hC
  | 13 => exact xb176_13 hC
  | 14 => exact xb176_14 hC
  | _ + 15 => exact sb_dead
end
/-! QuotaPeersModel.account(JJ)I -/
def xB177_0 : List z_Op × z_Tm := ([zo_ldA 0, zo_cI (0), zo_pI 8 0, zo_ldJ 1, zo_cJ (1), zo_lcmp], zt_if (fun x => x < 0) 4 [false, false, false, false, false] 1 [true, true, false, true, false])
def xB177_1 : List z_Op × z_Tm := ([zo_ldJ 1, zo_cJ (99999999999999999), zo_lcmp], zt_if (fun x => 0 < x) 4 [false, false, false, false, false] 2 [true, true, false, true, false])
def xB177_2 : List z_Op × z_Tm := ([zo_ldJ 3, zo_cJ (0), zo_lcmp], zt_if (fun x => x < 0) 4 [false, false, false, false, false] 3 [true, true, false, true, false])
def xB177_3 : List z_Op × z_Tm := ([zo_ldJ 3, zo_cJ (1152921504606846976), zo_lcmp], zt_if (fun x => x ≤ 0) 5 [true, true, false, true, false] 4 [false, false, false, false, false])
def xB177_4 : List z_Op × z_Tm := ([zo_cI (-2)], zt_iret)
def xB177_5 : List z_Op × z_Tm := ([zo_ldA 0, zo_ldJ 1, zo_crV 135 1 8], zt_if (fun x => x < 0) 7 [true, true, false, true, false] 6 [false, false, false, false, false])
def xB177_6 : List z_Op × z_Tm := ([zo_cI (-3)], zt_iret)
def xB177_7 : List z_Op × z_Tm := ([zo_ldA 0, zo_gI 8 35, zo_cI (16)], zt_icmp (fun x y => x = y) 8 [false, false, false, false, false] 9 [true, true, false, true, false])
def xB177_8 : List z_Op × z_Tm := ([zo_cI (-4)], zt_iret)
def xB177_9 : List z_Op × z_Tm := ([zo_ldA 0, zo_gR 8 36, zo_ldA 0, zo_gI 8 35, zo_ldJ 1, zo_astJ, zo_ldA 0, zo_gR 8 37, zo_ldA 0, zo_gI 8 35, zo_ldJ 3, zo_astJ, zo_ldA 0, zo_dupR, zo_gI 8 35, zo_cI (1), zo_ii ((· + ·)), zo_pI 8 35, zo_ldA 0, zo_gI 8 35], zt_iret)
def xp177 : Nat → Nat := fun b => ([0, 11, 19, 25, 33, 36, 44, 47, 56, 59] : List Nat).getD b 0
def xP177 : z_M := fun b => ([xB177_0, xB177_1, xB177_2, xB177_3, xB177_4, xB177_5, xB177_6, xB177_7, xB177_8, xB177_9] : List (List z_Op × z_Tm)).getD b z_dead
section
variable {d : Nat} {G : z_G} {l : Launch} {C : z_O}
theorem xb177_0 (hC : z_HC l G d z_tb C) : z_SB "QuotaPeersModel" prog_13_method_95_code 5 false d G l C ((Option.some Jvm.ClassFile.FieldType.int)) xp177 0 xB177_0.1 xB177_0.2 := sb_cons (n := 1) hC.1 (tz_ldA _) (so_aload_n 0 (by decide +kernel)) (sb_cons (n := 1) hC.1 (tz_cI _) (so_iconst (0) (0) (by decide +kernel) (by decide +kernel)) (sb_cons (n := 3) hC.1 (tz_pI _ _) (xp_8_0 w1151 (by decide +kernel)) (sb_cons (n := 1) hC.1 (tz_ldJ _) (so_lload_n 1 (by decide +kernel)) (sb_cons (n := 1) hC.1 (tz_cJ _) (so_lconst 1 (1) (by decide +kernel) (by decide +kernel)) (sb_cons (n := 1) hC.1 (tz_lcmp) (so_lcmp (by decide +kernel)) (sb_nil (tz_if _ _ _ _ _) (st_if_lt (off := 25) (by decide) (by decide) (by decide +kernel))))))))
theorem xb177_1 (hC : z_HC l G d z_tb C) : z_SB "QuotaPeersModel" prog_13_method_95_code 5 false d G l C ((Option.some Jvm.ClassFile.FieldType.int)) xp177 11 xB177_1.1 xB177_1.2 := sb_cons (n := 1) hC.1 (tz_ldJ _) (so_lload_n 1 (by decide +kernel)) (sb_cons (n := 3) hC.1 (tz_cJ _) (so_ldc2 561 (99999999999999999) w1809 (by decide +kernel)) (sb_cons (n := 1) hC.1 (tz_lcmp) (so_lcmp (by decide +kernel)) (sb_nil (tz_if _ _ _ _ _) (st_if_gt (off := 17) (by decide) (by decide) (by decide +kernel)))))
theorem xb177_2 (hC : z_HC l G d z_tb C) : z_SB "QuotaPeersModel" prog_13_method_95_code 5 false d G l C ((Option.some Jvm.ClassFile.FieldType.int)) xp177 19 xB177_2.1 xB177_2.2 := sb_cons (n := 1) hC.1 (tz_ldJ _) (so_lload_n 3 (by decide +kernel)) (sb_cons (n := 1) hC.1 (tz_cJ _) (so_lconst 0 (0) (by decide +kernel) (by decide +kernel)) (sb_cons (n := 1) hC.1 (tz_lcmp) (so_lcmp (by decide +kernel)) (sb_nil (tz_if _ _ _ _ _) (st_if_lt (off := 11) (by decide) (by decide) (by decide +kernel)))))
theorem xb177_3 (hC : z_HC l G d z_tb C) : z_SB "QuotaPeersModel" prog_13_method_95_code 5 false d G l C ((Option.some Jvm.ClassFile.FieldType.int)) xp177 25 xB177_3.1 xB177_3.2 := sb_cons (n := 1) hC.1 (tz_ldJ _) (so_lload_n 3 (by decide +kernel)) (sb_cons (n := 3) hC.1 (tz_cJ _) (so_ldc2 450 (1152921504606846976) w1705 (by decide +kernel)) (sb_cons (n := 1) hC.1 (tz_lcmp) (so_lcmp (by decide +kernel)) (sb_nil (tz_if _ _ _ _ _) (st_if_le (off := 6) (by decide) (by decide) (by decide +kernel)))))
theorem xb177_4 (hC : z_HC l G d z_tb C) : z_SB "QuotaPeersModel" prog_13_method_95_code 5 false d G l C ((Option.some Jvm.ClassFile.FieldType.int)) xp177 33 xB177_4.1 xB177_4.2 := sb_cons (n := 2) hC.1 (tz_cI _) (so_bipush (-2) (-2) (by decide +kernel) (by decide +kernel)) (sb_nil (tz_iret) (st_iret rfl (by decide +kernel)))
theorem xb177_5 (hC : z_HC l G d z_tb C) : z_SB "QuotaPeersModel" prog_13_method_95_code 5 false d G l C ((Option.some Jvm.ClassFile.FieldType.int)) xp177 36 xB177_5.1 xB177_5.2 := sb_cons (n := 1) hC.1 (tz_ldA _) (so_aload_n 0 (by decide +kernel)) (sb_cons (n := 1) hC.1 (tz_ldJ _) (so_lload_n 1 (by decide +kernel)) (sb_cons (n := 3) hC.1 (tz_crV _ _ _) (xc_135 hC w1715 (by decide +kernel)) (sb_nil (tz_if _ _ _ _ _) (st_if_lt (off := 6) (by decide) (by decide) (by decide +kernel)))))
theorem xb177_6 (hC : z_HC l G d z_tb C) : z_SB "QuotaPeersModel" prog_13_method_95_code 5 false d G l C ((Option.some Jvm.ClassFile.FieldType.int)) xp177 44 xB177_6.1 xB177_6.2 := sb_cons (n := 2) hC.1 (tz_cI _) (so_bipush (-3) (-3) (by decide +kernel) (by decide +kernel)) (sb_nil (tz_iret) (st_iret rfl (by decide +kernel)))
theorem xb177_7 (hC : z_HC l G d z_tb C) : z_SB "QuotaPeersModel" prog_13_method_95_code 5 false d G l C ((Option.some Jvm.ClassFile.FieldType.int)) xp177 47 xB177_7.1 xB177_7.2 := sb_cons (n := 1) hC.1 (tz_ldA _) (so_aload_n 0 (by decide +kernel)) (sb_cons (n := 3) hC.1 (tz_gI _ _) (xg_8_35 w1186 (by decide +kernel)) (sb_cons (n := 2) hC.1 (tz_cI _) (so_bipush (16) (16) (by decide +kernel) (by decide +kernel)) (sb_nil (tz_icmp _ _ _ _ _) (st_icmp_ne (off := 6) (by decide) (by decide) (by decide +kernel)))))
theorem xb177_8 (hC : z_HC l G d z_tb C) : z_SB "QuotaPeersModel" prog_13_method_95_code 5 false d G l C ((Option.some Jvm.ClassFile.FieldType.int)) xp177 56 xB177_8.1 xB177_8.2 := sb_cons (n := 2) hC.1 (tz_cI _) (so_bipush (-4) (-4) (by decide +kernel) (by decide +kernel)) (sb_nil (tz_iret) (st_iret rfl (by decide +kernel)))
theorem xb177_9 (hC : z_HC l G d z_tb C) : z_SB "QuotaPeersModel" prog_13_method_95_code 5 false d G l C ((Option.some Jvm.ClassFile.FieldType.int)) xp177 59 xB177_9.1 xB177_9.2 := sb_cons (n := 1) hC.1 (tz_ldA _) (so_aload_n 0 (by decide +kernel)) (sb_cons (n := 3) hC.1 (tz_gR _ _) (xg_8_36 w1187 (by decide +kernel)) (sb_cons (n := 1) hC.1 (tz_ldA _) (so_aload_n 0 (by decide +kernel)) (sb_cons (n := 3) hC.1 (tz_gI _ _) (xg_8_35 w1186 (by decide +kernel)) (sb_cons (n := 1) hC.1 (tz_ldJ _) (so_lload_n 1 (by decide +kernel)) (sb_cons (n := 1) hC.1 (tz_astJ) (so_lastore (by decide +kernel)) (sb_cons (n := 1) hC.1 (tz_ldA _) (so_aload_n 0 (by decide +kernel)) (sb_cons (n := 3) hC.1 (tz_gR _ _) (xg_8_37 w1188 (by decide +kernel)) (sb_cons (n := 1) hC.1 (tz_ldA _) (so_aload_n 0 (by decide +kernel)) (sb_cons (n := 3) hC.1 (tz_gI _ _) (xg_8_35 w1186 (by decide +kernel)) (sb_cons (n := 1) hC.1 (tz_ldJ _) (so_lload_n 3 (by decide +kernel)) (sb_cons (n := 1) hC.1 (tz_astJ) (so_lastore (by decide +kernel)) (sb_cons (n := 1) hC.1 (tz_ldA _) (so_aload_n 0 (by decide +kernel)) (sb_cons (n := 1) hC.1 (tz_dupR) (so_dupR (by decide +kernel)) (sb_cons (n := 3) hC.1 (tz_gI _ _) (xg_8_35 w1186 (by decide +kernel)) (sb_cons (n := 1) hC.1 (tz_cI _) (so_iconst (1) (1) (by decide +kernel) (by decide +kernel)) (sb_cons (n := 1) hC.1 (tz_ii _) (so_iadd (by decide +kernel)) (sb_cons (n := 3) hC.1 (tz_pI _ _) (xp_8_35 w1186 (by decide +kernel)) (sb_cons (n := 1) hC.1 (tz_ldA _) (so_aload_n 0 (by decide +kernel)) (sb_cons (n := 3) hC.1 (tz_gI _ _) (xg_8_35 w1186 (by decide +kernel)) (sb_nil (tz_iret) (st_iret rfl (by decide +kernel))))))))))))))))))))))
theorem xm177 (hC : z_HC l G d z_tb C) : z_SM "QuotaPeersModel" prog_13_method_95_code 5 false d G l C ((Option.some Jvm.ClassFile.FieldType.int)) xp177 xP177 := by
  intro b
  match b with
  | 0 => exact xb177_0 hC
  | 1 => exact xb177_1 hC
  | 2 => exact xb177_2 hC
  | 3 => exact xb177_3 hC
  | 4 => exact xb177_4 hC
  | 5 => exact xb177_5 hC
  | 6 => exact xb177_6 hC
  | 7 => exact xb177_7 hC
  | 8 => exact xb177_8 hC
  | 9 => exact xb177_9 hC
  | _ + 10 => exact sb_dead
end
/-! QuotaPeersModel.balance(JI)J -/
def xB178_0 : List z_Op × z_Tm := ([zo_ldA 0, zo_cI (0), zo_pI 8 0, zo_ldA 0, zo_ldJ 1, zo_crV 135 1 8, zo_stI 4, zo_ldI 4], zt_if (fun x => 0 ≤ x) 2 [true, false, false, true, true] 1 [false, false, false, false, false])
def xB178_1 : List z_Op × z_Tm := ([zo_cJ (-1)], zt_lret)
def xB178_2 : List z_Op × z_Tm := ([zo_ldI 3], zt_if (fun x => x = 0) 3 [true, false, false, false, true] 4 [true, false, false, true, true])
def xB178_3 : List z_Op × z_Tm := ([zo_ldA 0, zo_gR 8 37, zo_ldI 4, zo_aldJ], zt_goto 9 [false, false, false, false, false])
def xB178_4 : List z_Op × z_Tm := ([zo_ldI 3, zo_cI (1)], zt_icmp (fun x y => x = y) 5 [true, false, false, false, true] 6 [true, false, false, true, true])
def xB178_5 : List z_Op × z_Tm := ([zo_ldA 0, zo_gR 8 38, zo_ldI 4, zo_aldJ], zt_goto 9 [false, false, false, false, false])
def xB178_6 : List z_Op × z_Tm := ([zo_ldI 3, zo_cI (2)], zt_icmp (fun x y => x = y) 7 [true, false, false, false, true] 8 [false, false, false, false, false])
def xB178_7 : List z_Op × z_Tm := ([zo_ldA 0, zo_gR 8 39, zo_ldI 4, zo_aldJ], zt_goto 9 [false, false, false, false, false])
def xB178_8 : List z_Op × z_Tm := ([zo_cJ (-2)], zt_goto 9 [false, false, false, false, false])
def xB178_9 : List z_Op × z_Tm := ([], zt_lret)
def xp178 : Nat → Nat := fun b => ([0, 17, 21, 25, 35, 40, 50, 55, 65, 68] : List Nat).getD b 0
def xP178 : z_M := fun b => ([xB178_0, xB178_1, xB178_2, xB178_3, xB178_4, xB178_5, xB178_6, xB178_7, xB178_8, xB178_9] : List (List z_Op × z_Tm)).getD b z_dead
section
variable {d : Nat} {G : z_G} {l : Launch} {C : z_O}
theorem xb178_0 (hC : z_HC l G d z_tb C) : z_SB "QuotaPeersModel" prog_13_method_96_code 5 false d G l C ((Option.some Jvm.ClassFile.FieldType.long)) xp178 0 xB178_0.1 xB178_0.2 := sb_cons (n := 1) hC.1 (tz_ldA _) (so_aload_n 0 (by decide +kernel)) (sb_cons (n := 1) hC.1 (tz_cI _) (so_iconst (0) (0) (by decide +kernel) (by decide +kernel)) (sb_cons (n := 3) hC.1 (tz_pI _ _) (xp_8_0 w1151 (by decide +kernel)) (sb_cons (n := 1) hC.1 (tz_ldA _) (so_aload_n 0 (by decide +kernel)) (sb_cons (n := 1) hC.1 (tz_ldJ _) (so_lload_n 1 (by decide +kernel)) (sb_cons (n := 3) hC.1 (tz_crV _ _ _) (xc_135 hC w1715 (by decide +kernel)) (sb_cons (n := 2) hC.1 (tz_stI _) (so_istore 4 (by decide) (by decide +kernel)) (sb_cons (n := 2) hC.1 (tz_ldI _) (so_iload 4 (by decide +kernel)) (sb_nil (tz_if _ _ _ _ _) (st_if_ge (off := 7) (by decide) (by decide) (by decide +kernel))))))))))
theorem xb178_1 (hC : z_HC l G d z_tb C) : z_SB "QuotaPeersModel" prog_13_method_96_code 5 false d G l C ((Option.some Jvm.ClassFile.FieldType.long)) xp178 17 xB178_1.1 xB178_1.2 := sb_cons (n := 3) hC.1 (tz_cJ _) (so_ldc2 563 (-1) w1814 (by decide +kernel)) (sb_nil (tz_lret) (st_lret rfl (by decide +kernel)))
theorem xb178_2 (hC : z_HC l G d z_tb C) : z_SB "QuotaPeersModel" prog_13_method_96_code 5 false d G l C ((Option.some Jvm.ClassFile.FieldType.long)) xp178 21 xB178_2.1 xB178_2.2 := sb_cons (n := 1) hC.1 (tz_ldI _) (so_iload_n 3 (by decide +kernel)) (sb_nil (tz_if _ _ _ _ _) (st_if_ne (off := 13) (by decide) (by decide) (by decide +kernel)))
theorem xb178_3 (hC : z_HC l G d z_tb C) : z_SB "QuotaPeersModel" prog_13_method_96_code 5 false d G l C ((Option.some Jvm.ClassFile.FieldType.long)) xp178 25 xB178_3.1 xB178_3.2 := sb_cons (n := 1) hC.1 (tz_ldA _) (so_aload_n 0 (by decide +kernel)) (sb_cons (n := 3) hC.1 (tz_gR _ _) (xg_8_37 w1188 (by decide +kernel)) (sb_cons (n := 2) hC.1 (tz_ldI _) (so_iload 4 (by decide +kernel)) (sb_cons (n := 1) hC.1 (tz_aldJ) (so_laload (by decide +kernel)) (sb_nil (tz_goto _ _) (st_goto (off := 36) (by decide) (by decide +kernel))))))
theorem xb178_4 (hC : z_HC l G d z_tb C) : z_SB "QuotaPeersModel" prog_13_method_96_code 5 false d G l C ((Option.some Jvm.ClassFile.FieldType.long)) xp178 35 xB178_4.1 xB178_4.2 := sb_cons (n := 1) hC.1 (tz_ldI _) (so_iload_n 3 (by decide +kernel)) (sb_cons (n := 1) hC.1 (tz_cI _) (so_iconst (1) (1) (by decide +kernel) (by decide +kernel)) (sb_nil (tz_icmp _ _ _ _ _) (st_icmp_ne (off := 13) (by decide) (by decide) (by decide +kernel))))
theorem xb178_5 (hC : z_HC l G d z_tb C) : z_SB "QuotaPeersModel" prog_13_method_96_code 5 false d G l C ((Option.some Jvm.ClassFile.FieldType.long)) xp178 40 xB178_5.1 xB178_5.2 := sb_cons (n := 1) hC.1 (tz_ldA _) (so_aload_n 0 (by decide +kernel)) (sb_cons (n := 3) hC.1 (tz_gR _ _) (xg_8_38 w1189 (by decide +kernel)) (sb_cons (n := 2) hC.1 (tz_ldI _) (so_iload 4 (by decide +kernel)) (sb_cons (n := 1) hC.1 (tz_aldJ) (so_laload (by decide +kernel)) (sb_nil (tz_goto _ _) (st_goto (off := 21) (by decide) (by decide +kernel))))))
theorem xb178_6 (hC : z_HC l G d z_tb C) : z_SB "QuotaPeersModel" prog_13_method_96_code 5 false d G l C ((Option.some Jvm.ClassFile.FieldType.long)) xp178 50 xB178_6.1 xB178_6.2 := sb_cons (n := 1) hC.1 (tz_ldI _) (so_iload_n 3 (by decide +kernel)) (sb_cons (n := 1) hC.1 (tz_cI _) (so_iconst (2) (2) (by decide +kernel) (by decide +kernel)) (sb_nil (tz_icmp _ _ _ _ _) (st_icmp_ne (off := 13) (by decide) (by decide) (by decide +kernel))))
theorem xb178_7 (hC : z_HC l G d z_tb C) : z_SB "QuotaPeersModel" prog_13_method_96_code 5 false d G l C ((Option.some Jvm.ClassFile.FieldType.long)) xp178 55 xB178_7.1 xB178_7.2 := sb_cons (n := 1) hC.1 (tz_ldA _) (so_aload_n 0 (by decide +kernel)) (sb_cons (n := 3) hC.1 (tz_gR _ _) (xg_8_39 w1190 (by decide +kernel)) (sb_cons (n := 2) hC.1 (tz_ldI _) (so_iload 4 (by decide +kernel)) (sb_cons (n := 1) hC.1 (tz_aldJ) (so_laload (by decide +kernel)) (sb_nil (tz_goto _ _) (st_goto (off := 6) (by decide) (by decide +kernel))))))
theorem xb178_8 (hC : z_HC l G d z_tb C) : z_SB "QuotaPeersModel" prog_13_method_96_code 5 false d G l C ((Option.some Jvm.ClassFile.FieldType.long)) xp178 65 xB178_8.1 xB178_8.2 := sb_cons (n := 3) hC.1 (tz_cJ _) (so_ldc2 565 (-2) w1815 (by decide +kernel)) (sb_nil (tz_goto _ _) (st_fall (by decide)))
theorem xb178_9 (hC : z_HC l G d z_tb C) : z_SB "QuotaPeersModel" prog_13_method_96_code 5 false d G l C ((Option.some Jvm.ClassFile.FieldType.long)) xp178 68 xB178_9.1 xB178_9.2 := sb_nil (tz_lret) (st_lret rfl (by decide +kernel))
theorem xm178 (hC : z_HC l G d z_tb C) : z_SM "QuotaPeersModel" prog_13_method_96_code 5 false d G l C ((Option.some Jvm.ClassFile.FieldType.long)) xp178 xP178 := by
  intro b
  match b with
  | 0 => exact xb178_0 hC
  | 1 => exact xb178_1 hC
  | 2 => exact xb178_2 hC
  | 3 => exact xb178_3 hC
  | 4 => exact xb178_4 hC
  | 5 => exact xb178_5 hC
  | 6 => exact xb178_6 hC
  | 7 => exact xb178_7 hC
  | 8 => exact xb178_8 hC
  | 9 => exact xb178_9 hC
  | _ + 10 => exact sb_dead
end
/-! QuotaPeersModel.sessions()I -/
def xB179_0 : List z_Op × z_Tm := ([zo_ldA 0, zo_cI (0), zo_pI 8 0, zo_ldA 0, zo_gI 8 40], zt_iret)
def xp179 : Nat → Nat := fun b => ([0] : List Nat).getD b 0
def xP179 : z_M := fun b => ([xB179_0] : List (List z_Op × z_Tm)).getD b z_dead
section
variable {d : Nat} {G : z_G} {l : Launch} {C : z_O}
theorem xb179_0 (hC : z_HC l G d z_tb C) : z_SB "QuotaPeersModel" prog_13_method_97_code 1 false d G l C ((Option.some Jvm.ClassFile.FieldType.int)) xp179 0 xB179_0.1 xB179_0.2 := sb_cons (n := 1) hC.1 (tz_ldA _) (so_aload_n 0 (by decide +kernel)) (sb_cons (n := 1) hC.1 (tz_cI _) (so_iconst (0) (0) (by decide +kernel) (by decide +kernel)) (sb_cons (n := 3) hC.1 (tz_pI _ _) (xp_8_0 w1151 (by decide +kernel)) (sb_cons (n := 1) hC.1 (tz_ldA _) (so_aload_n 0 (by decide +kernel)) (sb_cons (n := 3) hC.1 (tz_gI _ _) (xg_8_40 w1191 (by decide +kernel)) (sb_nil (tz_iret) (st_iret rfl (by decide +kernel)))))))
theorem xm179 (hC : z_HC l G d z_tb C) : z_SM "QuotaPeersModel" prog_13_method_97_code 1 false d G l C ((Option.some Jvm.ClassFile.FieldType.int)) xp179 xP179 := by
  intro b
  match b with
  | 0 => exact xb179_0 hC
  | _ + 1 => exact sb_dead
end
/-! QuotaPeersModel.session(II)I -/
def xB180_0 : List z_Op × z_Tm := ([zo_ldA 0, zo_cI (0), zo_pI 8 0, zo_ldI 1], zt_if (fun x => x < 0) 2 [false, false, false] 1 [true, true, true])
def xB180_1 : List z_Op × z_Tm := ([zo_ldI 1, zo_ldA 0, zo_gI 8 40], zt_icmp (fun x y => x < y) 3 [true, true, true] 2 [false, false, false])
def xB180_2 : List z_Op × z_Tm := ([zo_cI (-1)], zt_iret)
def xB180_3 : List z_Op × z_Tm := ([zo_ldI 2], zt_sw [(0, 4, [true, true, false]), (1, 5, [true, true, false]), (2, 6, [true, true, false]), (3, 7, [true, true, false])] (8, [false, false, false]))
def xB180_4 : List z_Op × z_Tm := ([zo_ldA 0, zo_gR 8 41, zo_cI (41), zo_ldI 1, zo_ii ((· * ·)), zo_aldI 17], zt_iret)
def xB180_5 : List z_Op × z_Tm := ([zo_ldA 0, zo_gR 8 46, zo_ldI 1, zo_aldJ, zo_l2i], zt_iret)
def xB180_6 : List z_Op × z_Tm := ([zo_ldA 0, zo_gR 8 47, zo_ldI 1, zo_aldI 16], zt_iret)
def xB180_7 : List z_Op × z_Tm := ([zo_ldA 0, zo_gR 8 48, zo_ldI 1, zo_aldI 16], zt_iret)
def xB180_8 : List z_Op × z_Tm := ([zo_cI (-2)], zt_iret)
def xp180 : Nat → Nat := fun b => ([0, 9, 17, 19, 52, 62, 70, 77, 84] : List Nat).getD b 0
def xP180 : z_M := fun b => ([xB180_0, xB180_1, xB180_2, xB180_3, xB180_4, xB180_5, xB180_6, xB180_7, xB180_8] : List (List z_Op × z_Tm)).getD b z_dead
section
variable {d : Nat} {G : z_G} {l : Launch} {C : z_O}
theorem xb180_0 (hC : z_HC l G d z_tb C) : z_SB "QuotaPeersModel" prog_13_method_98_code 3 false d G l C ((Option.some Jvm.ClassFile.FieldType.int)) xp180 0 xB180_0.1 xB180_0.2 := sb_cons (n := 1) hC.1 (tz_ldA _) (so_aload_n 0 (by decide +kernel)) (sb_cons (n := 1) hC.1 (tz_cI _) (so_iconst (0) (0) (by decide +kernel) (by decide +kernel)) (sb_cons (n := 3) hC.1 (tz_pI _ _) (xp_8_0 w1151 (by decide +kernel)) (sb_cons (n := 1) hC.1 (tz_ldI _) (so_iload_n 1 (by decide +kernel)) (sb_nil (tz_if _ _ _ _ _) (st_if_lt (off := 11) (by decide) (by decide) (by decide +kernel))))))
theorem xb180_1 (hC : z_HC l G d z_tb C) : z_SB "QuotaPeersModel" prog_13_method_98_code 3 false d G l C ((Option.some Jvm.ClassFile.FieldType.int)) xp180 9 xB180_1.1 xB180_1.2 := sb_cons (n := 1) hC.1 (tz_ldI _) (so_iload_n 1 (by decide +kernel)) (sb_cons (n := 1) hC.1 (tz_ldA _) (so_aload_n 0 (by decide +kernel)) (sb_cons (n := 3) hC.1 (tz_gI _ _) (xg_8_40 w1191 (by decide +kernel)) (sb_nil (tz_icmp _ _ _ _ _) (st_icmp_lt (off := 5) (by decide) (by decide) (by decide +kernel)))))
theorem xb180_2 (hC : z_HC l G d z_tb C) : z_SB "QuotaPeersModel" prog_13_method_98_code 3 false d G l C ((Option.some Jvm.ClassFile.FieldType.int)) xp180 17 xB180_2.1 xB180_2.2 := sb_cons (n := 1) hC.1 (tz_cI _) (so_iconst (-1) (-1) (by decide +kernel) (by decide +kernel)) (sb_nil (tz_iret) (st_iret rfl (by decide +kernel)))
theorem xb180_3 (hC : z_HC l G d z_tb C) : z_SB "QuotaPeersModel" prog_13_method_98_code 3 false d G l C ((Option.some Jvm.ClassFile.FieldType.int)) xp180 19 xB180_3.1 xB180_3.2 := sb_cons (n := 1) hC.1 (tz_ldI _) (so_iload_n 2 (by decide +kernel)) (sb_nil (tz_sw _ _) (st_table (dflt := 64) (lo := 0) (hi := 3) (offs := #[32, 42, 50, 57]) (len := 32) (by decide +kernel) (by decide) (by decide +kernel)))
theorem xb180_4 (hC : z_HC l G d z_tb C) : z_SB "QuotaPeersModel" prog_13_method_98_code 3 false d G l C ((Option.some Jvm.ClassFile.FieldType.int)) xp180 52 xB180_4.1 xB180_4.2 := sb_cons (n := 1) hC.1 (tz_ldA _) (so_aload_n 0 (by decide +kernel)) (sb_cons (n := 3) hC.1 (tz_gR _ _) (xg_8_41 w1192 (by decide +kernel)) (sb_cons (n := 2) hC.1 (tz_cI _) (so_bipush (41) (41) (by decide +kernel) (by decide +kernel)) (sb_cons (n := 1) hC.1 (tz_ldI _) (so_iload_n 1 (by decide +kernel)) (sb_cons (n := 1) hC.1 (tz_ii _) (so_imul (by decide +kernel)) (sb_cons (n := 1) hC.1 (tz_aldI _) (so_baload (by decide +kernel)) (sb_nil (tz_iret) (st_iret rfl (by decide +kernel))))))))
theorem xb180_5 (hC : z_HC l G d z_tb C) : z_SB "QuotaPeersModel" prog_13_method_98_code 3 false d G l C ((Option.some Jvm.ClassFile.FieldType.int)) xp180 62 xB180_5.1 xB180_5.2 := sb_cons (n := 1) hC.1 (tz_ldA _) (so_aload_n 0 (by decide +kernel)) (sb_cons (n := 3) hC.1 (tz_gR _ _) (xg_8_46 w1197 (by decide +kernel)) (sb_cons (n := 1) hC.1 (tz_ldI _) (so_iload_n 1 (by decide +kernel)) (sb_cons (n := 1) hC.1 (tz_aldJ) (so_laload (by decide +kernel)) (sb_cons (n := 1) hC.1 (tz_l2i) (so_l2i (by decide +kernel)) (sb_nil (tz_iret) (st_iret rfl (by decide +kernel)))))))
theorem xb180_6 (hC : z_HC l G d z_tb C) : z_SB "QuotaPeersModel" prog_13_method_98_code 3 false d G l C ((Option.some Jvm.ClassFile.FieldType.int)) xp180 70 xB180_6.1 xB180_6.2 := sb_cons (n := 1) hC.1 (tz_ldA _) (so_aload_n 0 (by decide +kernel)) (sb_cons (n := 3) hC.1 (tz_gR _ _) (xg_8_47 w1198 (by decide +kernel)) (sb_cons (n := 1) hC.1 (tz_ldI _) (so_iload_n 1 (by decide +kernel)) (sb_cons (n := 1) hC.1 (tz_aldI _) (so_iaload (by decide +kernel)) (sb_nil (tz_iret) (st_iret rfl (by decide +kernel))))))
theorem xb180_7 (hC : z_HC l G d z_tb C) : z_SB "QuotaPeersModel" prog_13_method_98_code 3 false d G l C ((Option.some Jvm.ClassFile.FieldType.int)) xp180 77 xB180_7.1 xB180_7.2 := sb_cons (n := 1) hC.1 (tz_ldA _) (so_aload_n 0 (by decide +kernel)) (sb_cons (n := 3) hC.1 (tz_gR _ _) (xg_8_48 w1199 (by decide +kernel)) (sb_cons (n := 1) hC.1 (tz_ldI _) (so_iload_n 1 (by decide +kernel)) (sb_cons (n := 1) hC.1 (tz_aldI _) (so_iaload (by decide +kernel)) (sb_nil (tz_iret) (st_iret rfl (by decide +kernel))))))
theorem xb180_8 (hC : z_HC l G d z_tb C) : z_SB "QuotaPeersModel" prog_13_method_98_code 3 false d G l C ((Option.some Jvm.ClassFile.FieldType.int)) xp180 84 xB180_8.1 xB180_8.2 := sb_cons (n := 2) hC.1 (tz_cI _) (so_bipush (-2) (-2) (by decide +kernel) (by decide +kernel)) (sb_nil (tz_iret) (st_iret rfl (by decide +kernel)))
theorem xm180 (hC : z_HC l G d z_tb C) : z_SM "QuotaPeersModel" prog_13_method_98_code 3 false d G l C ((Option.some Jvm.ClassFile.FieldType.int)) xp180 xP180 := by
  intro b
  match b with
  | 0 => exact xb180_0 hC
  | 1 => exact xb180_1 hC
  | 2 => exact xb180_2 hC
  | 3 => exact xb180_3 hC
  | 4 => exact xb180_4 hC
  | 5 => exact xb180_5 hC
  | 6 => exact xb180_6 hC
  | 7 => exact xb180_7 hC
  | 8 => exact xb180_8 hC
  | _ + 9 => exact sb_dead
end
/-! QuotaPeersModel.granted(I)J -/
def xB181_0 : List z_Op × z_Tm := ([zo_ldA 0, zo_cI (0), zo_pI 8 0, zo_ldI 1], zt_if (fun x => x < 0) 2 [false, false] 1 [true, true])
def xB181_1 : List z_Op × z_Tm := ([zo_ldI 1, zo_ldA 0, zo_gI 8 40], zt_icmp (fun x y => x < y) 3 [true, true] 2 [false, false])
def xB181_2 : List z_Op × z_Tm := ([zo_cJ (-1)], zt_goto 4 [false, false])
def xB181_3 : List z_Op × z_Tm := ([zo_ldA 0, zo_gR 8 45, zo_ldI 1, zo_aldJ], zt_goto 4 [false, false])
def xB181_4 : List z_Op × z_Tm := ([], zt_lret)
def xp181 : Nat → Nat := fun b => ([0, 9, 17, 23, 29] : List Nat).getD b 0
def xP181 : z_M := fun b => ([xB181_0, xB181_1, xB181_2, xB181_3, xB181_4] : List (List z_Op × z_Tm)).getD b z_dead
section
variable {d : Nat} {G : z_G} {l : Launch} {C : z_O}
theorem xb181_0 (hC : z_HC l G d z_tb C) : z_SB "QuotaPeersModel" prog_13_method_99_code 2 false d G l C ((Option.some Jvm.ClassFile.FieldType.long)) xp181 0 xB181_0.1 xB181_0.2 := sb_cons (n := 1) hC.1 (tz_ldA _) (so_aload_n 0 (by decide +kernel)) (sb_cons (n := 1) hC.1 (tz_cI _) (so_iconst (0) (0) (by decide +kernel) (by decide +kernel)) (sb_cons (n := 3) hC.1 (tz_pI _ _) (xp_8_0 w1151 (by decide +kernel)) (sb_cons (n := 1) hC.1 (tz_ldI _) (so_iload_n 1 (by decide +kernel)) (sb_nil (tz_if _ _ _ _ _) (st_if_lt (off := 11) (by decide) (by decide) (by decide +kernel))))))
theorem xb181_1 (hC : z_HC l G d z_tb C) : z_SB "QuotaPeersModel" prog_13_method_99_code 2 false d G l C ((Option.some Jvm.ClassFile.FieldType.long)) xp181 9 xB181_1.1 xB181_1.2 := sb_cons (n := 1) hC.1 (tz_ldI _) (so_iload_n 1 (by decide +kernel)) (sb_cons (n := 1) hC.1 (tz_ldA _) (so_aload_n 0 (by decide +kernel)) (sb_cons (n := 3) hC.1 (tz_gI _ _) (xg_8_40 w1191 (by decide +kernel)) (sb_nil (tz_icmp _ _ _ _ _) (st_icmp_lt (off := 9) (by decide) (by decide) (by decide +kernel)))))
theorem xb181_2 (hC : z_HC l G d z_tb C) : z_SB "QuotaPeersModel" prog_13_method_99_code 2 false d G l C ((Option.some Jvm.ClassFile.FieldType.long)) xp181 17 xB181_2.1 xB181_2.2 := sb_cons (n := 3) hC.1 (tz_cJ _) (so_ldc2 563 (-1) w1814 (by decide +kernel)) (sb_nil (tz_goto _ _) (st_goto (off := 9) (by decide) (by decide +kernel)))
theorem xb181_3 (hC : z_HC l G d z_tb C) : z_SB "QuotaPeersModel" prog_13_method_99_code 2 false d G l C ((Option.some Jvm.ClassFile.FieldType.long)) xp181 23 xB181_3.1 xB181_3.2 := sb_cons (n := 1) hC.1 (tz_ldA _) (so_aload_n 0 (by decide +kernel)) (sb_cons (n := 3) hC.1 (tz_gR _ _) (xg_8_45 w1196 (by decide +kernel)) (sb_cons (n := 1) hC.1 (tz_ldI _) (so_iload_n 1 (by decide +kernel)) (sb_cons (n := 1) hC.1 (tz_aldJ) (so_laload (by decide +kernel)) (sb_nil (tz_goto _ _) (st_fall (by decide))))))
theorem xb181_4 (hC : z_HC l G d z_tb C) : z_SB "QuotaPeersModel" prog_13_method_99_code 2 false d G l C ((Option.some Jvm.ClassFile.FieldType.long)) xp181 29 xB181_4.1 xB181_4.2 := sb_nil (tz_lret) (st_lret rfl (by decide +kernel))
theorem xm181 (hC : z_HC l G d z_tb C) : z_SM "QuotaPeersModel" prog_13_method_99_code 2 false d G l C ((Option.some Jvm.ClassFile.FieldType.long)) xp181 xP181 := by
  intro b
  match b with
  | 0 => exact xb181_0 hC
  | 1 => exact xb181_1 hC
  | 2 => exact xb181_2 hC
  | 3 => exact xb181_3 hC
  | 4 => exact xb181_4 hC
  | _ + 5 => exact sb_dead
end
/-! QuotaPeersModel.ask(I)I -/
def xB182_0 : List z_Op × z_Tm := ([zo_ldA 0, zo_cI (0), zo_pI 8 0, zo_ldI 1], zt_if (fun x => x < 0) 2 [false, false, false] 1 [true, true, false])
def xB182_1 : List z_Op × z_Tm := ([zo_ldI 1, zo_ldA 0, zo_gI 8 40], zt_icmp (fun x y => x < y) 3 [true, true, false] 2 [false, false, false])
def xB182_2 : List z_Op × z_Tm := ([zo_cI (-1)], zt_iret)
def xB182_3 : List z_Op × z_Tm := ([zo_ldA 0, zo_ldA 0, zo_gR 8 47, zo_ldI 1, zo_aldI 16, zo_cI (1), zo_ii ((· - ·)), zo_crV 131 1 8], zt_if (fun x => x = 0) 5 [true, true, false] 4 [true, true, false])
def xB182_4 : List z_Op × z_Tm := ([zo_ldA 0, zo_gR 8 47, zo_ldI 1, zo_aldI 16, zo_cI (1), zo_ii ((· - ·))], zt_goto 6 [true, true, false])
def xB182_5 : List z_Op × z_Tm := ([zo_ldA 0, zo_crV 132 0 8], zt_goto 6 [true, true, false])
def xB182_6 : List z_Op × z_Tm := ([zo_stI 2, zo_ldI 2], zt_if (fun x => 0 ≤ x) 8 [true, true, true] 7 [false, false, false])
def xB182_7 : List z_Op × z_Tm := ([zo_cI (-3)], zt_iret)
def xB182_8 : List z_Op × z_Tm := ([zo_ldA 0, zo_gI 8 49, zo_cI (64)], zt_icmp (fun x y => x = y) 9 [false, false, false] 10 [true, true, true])
def xB182_9 : List z_Op × z_Tm := ([zo_cI (-4)], zt_iret)
def xB182_10 : List z_Op × z_Tm := ([zo_ldA 0, zo_ldA 0, zo_gR 8 41, zo_cI (41), zo_ldI 1, zo_ii ((· * ·)), zo_ldA 0, zo_gR 8 50, zo_cI (41), zo_ldA 0, zo_gI 8 49, zo_ii ((· * ·)), zo_cvV 139 4 8, zo_ldA 0, zo_ldA 0, zo_gR 8 42, zo_cI (41), zo_ldI 1, zo_ii ((· * ·)), zo_ldA 0, zo_gR 8 51, zo_cI (41), zo_ldA 0, zo_gI 8 49, zo_ii ((· * ·)), zo_cvV 139 4 8, zo_ldA 0, zo_ldA 0, zo_gR 8 43, zo_cI (41), zo_ldI 1, zo_ii ((· * ·)), zo_ldA 0, zo_gR 8 52, zo_cI (41), zo_ldA 0, zo_gI 8 49, zo_ii ((· * ·)), zo_cvV 139 4 8, zo_ldA 0, zo_dupR, zo_gI 8 49, zo_cI (1), zo_ii ((· + ·)), zo_pI 8 49, zo_ldA 0, zo_ldA 0, zo_gI 8 49, zo_cI (1), zo_ii ((· - ·)), zo_ldI 2, zo_cvV 133 2 8, zo_ldA 0, zo_gI 8 49, zo_cI (1), zo_ii ((· - ·))], zt_iret)
def xp182 : Nat → Nat := fun b => ([0, 9, 17, 19, 34, 45, 49, 54, 57, 66, 69] : List Nat).getD b 0
def xP182 : z_M := fun b => ([xB182_0, xB182_1, xB182_2, xB182_3, xB182_4, xB182_5, xB182_6, xB182_7, xB182_8, xB182_9, xB182_10] : List (List z_Op × z_Tm)).getD b z_dead
section
variable {d : Nat} {G : z_G} {l : Launch} {C : z_O}
theorem xb182_0 (hC : z_HC l G d z_tb C) : z_SB "QuotaPeersModel" prog_13_method_100_code 3 false d G l C ((Option.some Jvm.ClassFile.FieldType.int)) xp182 0 xB182_0.1 xB182_0.2 := sb_cons (n := 1) hC.1 (tz_ldA _) (so_aload_n 0 (by decide +kernel)) (sb_cons (n := 1) hC.1 (tz_cI _) (so_iconst (0) (0) (by decide +kernel) (by decide +kernel)) (sb_cons (n := 3) hC.1 (tz_pI _ _) (xp_8_0 w1151 (by decide +kernel)) (sb_cons (n := 1) hC.1 (tz_ldI _) (so_iload_n 1 (by decide +kernel)) (sb_nil (tz_if _ _ _ _ _) (st_if_lt (off := 11) (by decide) (by decide) (by decide +kernel))))))
theorem xb182_1 (hC : z_HC l G d z_tb C) : z_SB "QuotaPeersModel" prog_13_method_100_code 3 false d G l C ((Option.some Jvm.ClassFile.FieldType.int)) xp182 9 xB182_1.1 xB182_1.2 := sb_cons (n := 1) hC.1 (tz_ldI _) (so_iload_n 1 (by decide +kernel)) (sb_cons (n := 1) hC.1 (tz_ldA _) (so_aload_n 0 (by decide +kernel)) (sb_cons (n := 3) hC.1 (tz_gI _ _) (xg_8_40 w1191 (by decide +kernel)) (sb_nil (tz_icmp _ _ _ _ _) (st_icmp_lt (off := 5) (by decide) (by decide) (by decide +kernel)))))
theorem xb182_2 (hC : z_HC l G d z_tb C) : z_SB "QuotaPeersModel" prog_13_method_100_code 3 false d G l C ((Option.some Jvm.ClassFile.FieldType.int)) xp182 17 xB182_2.1 xB182_2.2 := sb_cons (n := 1) hC.1 (tz_cI _) (so_iconst (-1) (-1) (by decide +kernel) (by decide +kernel)) (sb_nil (tz_iret) (st_iret rfl (by decide +kernel)))
theorem xb182_3 (hC : z_HC l G d z_tb C) : z_SB "QuotaPeersModel" prog_13_method_100_code 3 false d G l C ((Option.some Jvm.ClassFile.FieldType.int)) xp182 19 xB182_3.1 xB182_3.2 := sb_cons (n := 1) hC.1 (tz_ldA _) (so_aload_n 0 (by decide +kernel)) (sb_cons (n := 1) hC.1 (tz_ldA _) (so_aload_n 0 (by decide +kernel)) (sb_cons (n := 3) hC.1 (tz_gR _ _) (xg_8_47 w1198 (by decide +kernel)) (sb_cons (n := 1) hC.1 (tz_ldI _) (so_iload_n 1 (by decide +kernel)) (sb_cons (n := 1) hC.1 (tz_aldI _) (so_iaload (by decide +kernel)) (sb_cons (n := 1) hC.1 (tz_cI _) (so_iconst (1) (1) (by decide +kernel) (by decide +kernel)) (sb_cons (n := 1) hC.1 (tz_ii _) (so_isub (by decide +kernel)) (sb_cons (n := 3) hC.1 (tz_crV _ _ _) (xc_131 hC w1518 (by decide +kernel)) (sb_nil (tz_if _ _ _ _ _) (st_if_eq (off := 14) (by decide) (by decide) (by decide +kernel))))))))))
theorem xb182_4 (hC : z_HC l G d z_tb C) : z_SB "QuotaPeersModel" prog_13_method_100_code 3 false d G l C ((Option.some Jvm.ClassFile.FieldType.int)) xp182 34 xB182_4.1 xB182_4.2 := sb_cons (n := 1) hC.1 (tz_ldA _) (so_aload_n 0 (by decide +kernel)) (sb_cons (n := 3) hC.1 (tz_gR _ _) (xg_8_47 w1198 (by decide +kernel)) (sb_cons (n := 1) hC.1 (tz_ldI _) (so_iload_n 1 (by decide +kernel)) (sb_cons (n := 1) hC.1 (tz_aldI _) (so_iaload (by decide +kernel)) (sb_cons (n := 1) hC.1 (tz_cI _) (so_iconst (1) (1) (by decide +kernel) (by decide +kernel)) (sb_cons (n := 1) hC.1 (tz_ii _) (so_isub (by decide +kernel)) (sb_nil (tz_goto _ _) (st_goto (off := 7) (by decide) (by decide +kernel))))))))
theorem xb182_5 (hC : z_HC l G d z_tb C) : z_SB "QuotaPeersModel" prog_13_method_100_code 3 false d G l C ((Option.some Jvm.ClassFile.FieldType.int)) xp182 45 xB182_5.1 xB182_5.2 := sb_cons (n := 1) hC.1 (tz_ldA _) (so_aload_n 0 (by decide +kernel)) (sb_cons (n := 3) hC.1 (tz_crV _ _ _) (xc_132 hC w1514 (by decide +kernel)) (sb_nil (tz_goto _ _) (st_fall (by decide))))
theorem xb182_6 (hC : z_HC l G d z_tb C) : z_SB "QuotaPeersModel" prog_13_method_100_code 3 false d G l C ((Option.some Jvm.ClassFile.FieldType.int)) xp182 49 xB182_6.1 xB182_6.2 := sb_cons (n := 1) hC.1 (tz_stI _) (so_istore_n 2 (by decide) (by decide +kernel)) (sb_cons (n := 1) hC.1 (tz_ldI _) (so_iload_n 2 (by decide +kernel)) (sb_nil (tz_if _ _ _ _ _) (st_if_ge (off := 6) (by decide) (by decide) (by decide +kernel))))
theorem xb182_7 (hC : z_HC l G d z_tb C) : z_SB "QuotaPeersModel" prog_13_method_100_code 3 false d G l C ((Option.some Jvm.ClassFile.FieldType.int)) xp182 54 xB182_7.1 xB182_7.2 := sb_cons (n := 2) hC.1 (tz_cI _) (so_bipush (-3) (-3) (by decide +kernel) (by decide +kernel)) (sb_nil (tz_iret) (st_iret rfl (by decide +kernel)))
theorem xb182_8 (hC : z_HC l G d z_tb C) : z_SB "QuotaPeersModel" prog_13_method_100_code 3 false d G l C ((Option.some Jvm.ClassFile.FieldType.int)) xp182 57 xB182_8.1 xB182_8.2 := sb_cons (n := 1) hC.1 (tz_ldA _) (so_aload_n 0 (by decide +kernel)) (sb_cons (n := 3) hC.1 (tz_gI _ _) (xg_8_49 w1200 (by decide +kernel)) (sb_cons (n := 2) hC.1 (tz_cI _) (so_bipush (64) (64) (by decide +kernel) (by decide +kernel)) (sb_nil (tz_icmp _ _ _ _ _) (st_icmp_ne (off := 6) (by decide) (by decide) (by decide +kernel)))))
theorem xb182_9 (hC : z_HC l G d z_tb C) : z_SB "QuotaPeersModel" prog_13_method_100_code 3 false d G l C ((Option.some Jvm.ClassFile.FieldType.int)) xp182 66 xB182_9.1 xB182_9.2 := sb_cons (n := 2) hC.1 (tz_cI _) (so_bipush (-4) (-4) (by decide +kernel) (by decide +kernel)) (sb_nil (tz_iret) (st_iret rfl (by decide +kernel)))
theorem xb182_10 (hC : z_HC l G d z_tb C) : z_SB "QuotaPeersModel" prog_13_method_100_code 3 false d G l C ((Option.some Jvm.ClassFile.FieldType.int)) xp182 69 xB182_10.1 xB182_10.2 := sb_cons (n := 1) hC.1 (tz_ldA _) (so_aload_n 0 (by decide +kernel)) (sb_cons (n := 1) hC.1 (tz_ldA _) (so_aload_n 0 (by decide +kernel)) (sb_cons (n := 3) hC.1 (tz_gR _ _) (xg_8_41 w1192 (by decide +kernel)) (sb_cons (n := 2) hC.1 (tz_cI _) (so_bipush (41) (41) (by decide +kernel) (by decide +kernel)) (sb_cons (n := 1) hC.1 (tz_ldI _) (so_iload_n 1 (by decide +kernel)) (sb_cons (n := 1) hC.1 (tz_ii _) (so_imul (by decide +kernel)) (sb_cons (n := 1) hC.1 (tz_ldA _) (so_aload_n 0 (by decide +kernel)) (sb_cons (n := 3) hC.1 (tz_gR _ _) (xg_8_50 w1201 (by decide +kernel)) (sb_cons (n := 2) hC.1 (tz_cI _) (so_bipush (41) (41) (by decide +kernel) (by decide +kernel)) (sb_cons (n := 1) hC.1 (tz_ldA _) (so_aload_n 0 (by decide +kernel)) (sb_cons (n := 3) hC.1 (tz_gI _ _) (xg_8_49 w1200 (by decide +kernel)) (sb_cons (n := 1) hC.1 (tz_ii _) (so_imul (by decide +kernel)) (sb_cons (n := 3) hC.1 (tz_cvV _ _ _) (xc_139 hC w1686 (by decide +kernel)) (sb_cons (n := 1) hC.1 (tz_ldA _) (so_aload_n 0 (by decide +kernel)) (sb_cons (n := 1) hC.1 (tz_ldA _) (so_aload_n 0 (by decide +kernel)) (sb_cons (n := 3) hC.1 (tz_gR _ _) (xg_8_42 w1193 (by decide +kernel)) (sb_cons (n := 2) hC.1 (tz_cI _) (so_bipush (41) (41) (by decide +kernel) (by decide +kernel)) (sb_cons (n := 1) hC.1 (tz_ldI _) (so_iload_n 1 (by decide +kernel)) (sb_cons (n := 1) hC.1 (tz_ii _) (so_imul (by decide +kernel)) (sb_cons (n := 1) hC.1 (tz_ldA _) (so_aload_n 0 (by decide +kernel)) (sb_cons (n := 3) hC.1 (tz_gR _ _) (xg_8_51 w1202 (by decide +kernel)) (sb_cons (n := 2) hC.1 (tz_cI _) (so_bipush (41) (41) (by decide +kernel) (by decide +kernel)) (sb_cons (n := 1) hC.1 (tz_ldA _) (so_aload_n 0 (by decide +kernel)) (sb_cons (n := 3) hC.1 (tz_gI _ _) (xg_8_49 w1200 (by decide +kernel)) (sb_cons (n := 1) hC.1 (tz_ii _) (so_imul (by decide +kernel)) (sb_cons (n := 3) hC.1 (tz_cvV _ _ _) (xc_139 hC w1686 (by decide +kernel)) (sb_cons (n := 1) hC.1 (tz_ldA _) (so_aload_n 0 (by decide +kernel)) (sb_cons (n := 1) hC.1 (tz_ldA _) (so_aload_n 0 (by decide +kernel)) (sb_cons (n := 3) hC.1 (tz_gR _ _) (xg_8_43 w1194 (by decide +kernel)) (sb_cons (n := 2) hC.1 (tz_cI _) (so_bipush (41) (41) (by decide +kernel) (by decide +kernel)) (sb_cons (n := 1) hC.1 (tz_ldI _) (so_iload_n 1 (by decide +kernel)) (sb_cons (n := 1) hC.1 (tz_ii _) (so_imul (by decide +kernel)) (sb_cons (n := 1) hC.1 (tz_ldA _) (so_aload_n 0 (by decide +kernel)) (sb_cons (n := 3) hC.1 (tz_gR _ _) (xg_8_52 w1203 (by decide +kernel)) (sb_cons (n := 2) hC.1 (tz_cI _) (so_bipush (41) (41) (by decide +kernel) (by decide +kernel)) (sb_cons (n := 1) hC.1 (tz_ldA _) (so_aload_n 0 (by decide +kernel)) (sb_cons (n := 3) hC.1 (tz_gI _ _) (xg_8_49 w1200 (by decide +kernel)) (sb_cons (n := 1) hC.1 (tz_ii _) (so_imul (by decide +kernel)) (sb_cons (n := 3) hC.1 (tz_cvV _ _ _) (xc_139 hC w1686 (by decide +kernel)) (sb_cons (n := 1) hC.1 (tz_ldA _) (so_aload_n 0 (by decide +kernel)) (sb_cons (n := 1) hC.1 (tz_dupR) (so_dupR (by decide +kernel)) (sb_cons (n := 3) hC.1 (tz_gI _ _) (xg_8_49 w1200 (by decide +kernel)) (sb_cons (n := 1) hC.1 (tz_cI _) (so_iconst (1) (1) (by decide +kernel) (by decide +kernel)) (sb_cons (n := 1) hC.1 (tz_ii _) (so_iadd (by decide +kernel)) (sb_cons (n := 3) hC.1 (tz_pI _ _) (xp_8_49 w1200 (by decide +kernel)) (sb_cons (n := 1) hC.1 (tz_ldA _) (so_aload_n 0 (by decide +kernel)) (sb_cons (n := 1) hC.1 (tz_ldA _) (so_aload_n 0 (by decide +kernel)) (sb_cons (n := 3) hC.1 (tz_gI _ _) (xg_8_49 w1200 (by decide +kernel)) (sb_cons (n := 1) hC.1 (tz_cI _) (so_iconst (1) (1) (by decide +kernel) (by decide +kernel)) (sb_cons (n := 1) hC.1 (tz_ii _) (so_isub (by decide +kernel)) (sb_cons (n := 1) hC.1 (tz_ldI _) (so_iload_n 2 (by decide +kernel)) (sb_cons (n := 3) hC.1 (tz_cvV _ _ _) (xc_133 hC w1522 (by decide +kernel)) (sb_cons (n := 1) hC.1 (tz_ldA _) (so_aload_n 0 (by decide +kernel)) (sb_cons (n := 3) hC.1 (tz_gI _ _) (xg_8_49 w1200 (by decide +kernel)) (sb_cons (n := 1) hC.1 (tz_cI _) (so_iconst (1) (1) (by decide +kernel) (by decide +kernel)) (sb_cons (n := 1) hC.1 (tz_ii _) (so_isub (by decide +kernel)) (sb_nil (tz_iret) (st_iret rfl (by decide +kernel))))))))))))))))))))))))))))))))))))))))))))))))))))))))))
theorem xm182 (hC : z_HC l G d z_tb C) : z_SM "QuotaPeersModel" prog_13_method_100_code 3 false d G l C ((Option.some Jvm.ClassFile.FieldType.int)) xp182 xP182 := by
  intro b
  match b with
  | 0 => exact xb182_0 hC
  | 1 => exact xb182_1 hC
  | 2 => exact xb182_2 hC
  | 3 => exact xb182_3 hC
  | 4 => exact xb182_4 hC
  | 5 => exact xb182_5 hC
  | 6 => exact xb182_6 hC
  | 7 => exact xb182_7 hC
  | 8 => exact xb182_8 hC
  | 9 => exact xb182_9 hC
  | 10 => exact xb182_10 hC
  | _ + 11 => exact sb_dead
end
/-! QuotaPeersModel.asked(II)I -/
def xB183_0 : List z_Op × z_Tm := ([zo_ldA 0, zo_cI (0), zo_pI 8 0, zo_ldI 1], zt_if (fun x => x < 0) 2 [false, false, false] 1 [true, true, true])
def xB183_1 : List z_Op × z_Tm := ([zo_ldI 1, zo_ldA 0, zo_gI 8 49], zt_icmp (fun x y => x < y) 3 [true, true, true] 2 [false, false, false])
def xB183_2 : List z_Op × z_Tm := ([zo_cI (-1)], zt_iret)
def xB183_3 : List z_Op × z_Tm := ([zo_ldI 2], zt_sw [(0, 4, [true, true, false]), (1, 5, [true, true, false]), (2, 6, [true, true, false]), (3, 7, [true, true, false]), (4, 8, [true, true, false])] (9, [false, false, false]))
def xB183_4 : List z_Op × z_Tm := ([zo_ldA 0, zo_gR 8 53, zo_ldI 1, zo_aldJ, zo_l2i], zt_iret)
def xB183_5 : List z_Op × z_Tm := ([zo_ldA 0, zo_gR 8 54, zo_ldI 1, zo_aldI 16, zo_cI (1), zo_ii ((· + ·))], zt_iret)
def xB183_6 : List z_Op × z_Tm := ([zo_ldA 0, zo_gR 8 55, zo_ldI 1, zo_aldI 16], zt_iret)
def xB183_7 : List z_Op × z_Tm := ([zo_ldA 0, zo_gR 8 56, zo_ldI 1, zo_aldI 16], zt_iret)
def xB183_8 : List z_Op × z_Tm := ([zo_ldA 0, zo_gR 8 57, zo_ldI 1, zo_aldI 16], zt_iret)
def xB183_9 : List z_Op × z_Tm := ([zo_cI (-2)], zt_iret)
def xp183 : Nat → Nat := fun b => ([0, 9, 17, 19, 56, 64, 73, 80, 87, 94] : List Nat).getD b 0
def xP183 : z_M := fun b => ([xB183_0, xB183_1, xB183_2, xB183_3, xB183_4, xB183_5, xB183_6, xB183_7, xB183_8, xB183_9] : List (List z_Op × z_Tm)).getD b z_dead
section
variable {d : Nat} {G : z_G} {l : Launch} {C : z_O}
theorem xb183_0 (hC : z_HC l G d z_tb C) : z_SB "QuotaPeersModel" prog_13_method_101_code 3 false d G l C ((Option.some Jvm.ClassFile.FieldType.int)) xp183 0 xB183_0.1 xB183_0.2 := sb_cons (n := 1) hC.1 (tz_ldA _) (so_aload_n 0 (by decide +kernel)) (sb_cons (n := 1) hC.1 (tz_cI _) (so_iconst (0) (0) (by decide +kernel) (by decide +kernel)) (sb_cons (n := 3) hC.1 (tz_pI _ _) (xp_8_0 w1151 (by decide +kernel)) (sb_cons (n := 1) hC.1 (tz_ldI _) (so_iload_n 1 (by decide +kernel)) (sb_nil (tz_if _ _ _ _ _) (st_if_lt (off := 11) (by decide) (by decide) (by decide +kernel))))))
theorem xb183_1 (hC : z_HC l G d z_tb C) : z_SB "QuotaPeersModel" prog_13_method_101_code 3 false d G l C ((Option.some Jvm.ClassFile.FieldType.int)) xp183 9 xB183_1.1 xB183_1.2 := sb_cons (n := 1) hC.1 (tz_ldI _) (so_iload_n 1 (by decide +kernel)) (sb_cons (n := 1) hC.1 (tz_ldA _) (so_aload_n 0 (by decide +kernel)) (sb_cons (n := 3) hC.1 (tz_gI _ _) (xg_8_49 w1200 (by decide +kernel)) (sb_nil (tz_icmp _ _ _ _ _) (st_icmp_lt (off := 5) (by decide) (by decide) (by decide +kernel)))))
theorem xb183_2 (hC : z_HC l G d z_tb C) : z_SB "QuotaPeersModel" prog_13_method_101_code 3 false d G l C ((Option.some Jvm.ClassFile.FieldType.int)) xp183 17 xB183_2.1 xB183_2.2 := sb_cons (n := 1) hC.1 (tz_cI _) (so_iconst (-1) (-1) (by decide +kernel) (by decide +kernel)) (sb_nil (tz_iret) (st_iret rfl (by decide +kernel)))
theorem xb183_3 (hC : z_HC l G d z_tb C) : z_SB "QuotaPeersModel" prog_13_method_101_code 3 false d G l C ((Option.some Jvm.ClassFile.FieldType.int)) xp183 19 xB183_3.1 xB183_3.2 := sb_cons (n := 1) hC.1 (tz_ldI _) (so_iload_n 2 (by decide +kernel)) (sb_nil (tz_sw _ _) (st_table (dflt := 74) (lo := 0) (hi := 4) (offs := #[36, 44, 53, 60, 67]) (len := 36) (by decide +kernel) (by decide) (by decide +kernel)))
theorem xb183_4 (hC : z_HC l G d z_tb C) : z_SB "QuotaPeersModel" prog_13_method_101_code 3 false d G l C ((Option.some Jvm.ClassFile.FieldType.int)) xp183 56 xB183_4.1 xB183_4.2 := sb_cons (n := 1) hC.1 (tz_ldA _) (so_aload_n 0 (by decide +kernel)) (sb_cons (n := 3) hC.1 (tz_gR _ _) (xg_8_53 w1204 (by decide +kernel)) (sb_cons (n := 1) hC.1 (tz_ldI _) (so_iload_n 1 (by decide +kernel)) (sb_cons (n := 1) hC.1 (tz_aldJ) (so_laload (by decide +kernel)) (sb_cons (n := 1) hC.1 (tz_l2i) (so_l2i (by decide +kernel)) (sb_nil (tz_iret) (st_iret rfl (by decide +kernel)))))))
theorem xb183_5 (hC : z_HC l G d z_tb C) : z_SB "QuotaPeersModel" prog_13_method_101_code 3 false d G l C ((Option.some Jvm.ClassFile.FieldType.int)) xp183 64 xB183_5.1 xB183_5.2 := sb_cons (n := 1) hC.1 (tz_ldA _) (so_aload_n 0 (by decide +kernel)) (sb_cons (n := 3) hC.1 (tz_gR _ _) (xg_8_54 w1205 (by decide +kernel)) (sb_cons (n := 1) hC.1 (tz_ldI _) (so_iload_n 1 (by decide +kernel)) (sb_cons (n := 1) hC.1 (tz_aldI _) (so_iaload (by decide +kernel)) (sb_cons (n := 1) hC.1 (tz_cI _) (so_iconst (1) (1) (by decide +kernel) (by decide +kernel)) (sb_cons (n := 1) hC.1 (tz_ii _) (so_iadd (by decide +kernel)) (sb_nil (tz_iret) (st_iret rfl (by decide +kernel))))))))
theorem xb183_6 (hC : z_HC l G d z_tb C) : z_SB "QuotaPeersModel" prog_13_method_101_code 3 false d G l C ((Option.some Jvm.ClassFile.FieldType.int)) xp183 73 xB183_6.1 xB183_6.2 := sb_cons (n := 1) hC.1 (tz_ldA _) (so_aload_n 0 (by decide +kernel)) (sb_cons (n := 3) hC.1 (tz_gR _ _) (xg_8_55 w1206 (by decide +kernel)) (sb_cons (n := 1) hC.1 (tz_ldI _) (so_iload_n 1 (by decide +kernel)) (sb_cons (n := 1) hC.1 (tz_aldI _) (so_iaload (by decide +kernel)) (sb_nil (tz_iret) (st_iret rfl (by decide +kernel))))))
theorem xb183_7 (hC : z_HC l G d z_tb C) : z_SB "QuotaPeersModel" prog_13_method_101_code 3 false d G l C ((Option.some Jvm.ClassFile.FieldType.int)) xp183 80 xB183_7.1 xB183_7.2 := sb_cons (n := 1) hC.1 (tz_ldA _) (so_aload_n 0 (by decide +kernel)) (sb_cons (n := 3) hC.1 (tz_gR _ _) (xg_8_56 w1207 (by decide +kernel)) (sb_cons (n := 1) hC.1 (tz_ldI _) (so_iload_n 1 (by decide +kernel)) (sb_cons (n := 1) hC.1 (tz_aldI _) (so_iaload (by decide +kernel)) (sb_nil (tz_iret) (st_iret rfl (by decide +kernel))))))
theorem xb183_8 (hC : z_HC l G d z_tb C) : z_SB "QuotaPeersModel" prog_13_method_101_code 3 false d G l C ((Option.some Jvm.ClassFile.FieldType.int)) xp183 87 xB183_8.1 xB183_8.2 := sb_cons (n := 1) hC.1 (tz_ldA _) (so_aload_n 0 (by decide +kernel)) (sb_cons (n := 3) hC.1 (tz_gR _ _) (xg_8_57 w1208 (by decide +kernel)) (sb_cons (n := 1) hC.1 (tz_ldI _) (so_iload_n 1 (by decide +kernel)) (sb_cons (n := 1) hC.1 (tz_aldI _) (so_iaload (by decide +kernel)) (sb_nil (tz_iret) (st_iret rfl (by decide +kernel))))))
theorem xb183_9 (hC : z_HC l G d z_tb C) : z_SB "QuotaPeersModel" prog_13_method_101_code 3 false d G l C ((Option.some Jvm.ClassFile.FieldType.int)) xp183 94 xB183_9.1 xB183_9.2 := sb_cons (n := 2) hC.1 (tz_cI _) (so_bipush (-2) (-2) (by decide +kernel) (by decide +kernel)) (sb_nil (tz_iret) (st_iret rfl (by decide +kernel)))
theorem xm183 (hC : z_HC l G d z_tb C) : z_SM "QuotaPeersModel" prog_13_method_101_code 3 false d G l C ((Option.some Jvm.ClassFile.FieldType.int)) xp183 xP183 := by
  intro b
  match b with
  | 0 => exact xb183_0 hC
  | 1 => exact xb183_1 hC
  | 2 => exact xb183_2 hC
  | 3 => exact xb183_3 hC
  | 4 => exact xb183_4 hC
  | 5 => exact xb183_5 hC
  | 6 => exact xb183_6 hC
  | 7 => exact xb183_7 hC
  | 8 => exact xb183_8 hC
  | 9 => exact xb183_9 hC
  | _ + 10 => exact sb_dead
end
/-! QuotaPeersModel.kept()I -/
def xB184_0 : List z_Op × z_Tm := ([zo_ldA 0, zo_cI (0), zo_pI 8 0, zo_ldA 0, zo_cvV 150 0 8, zo_ldA 0, zo_gI 8 59], zt_iret)
def xp184 : Nat → Nat := fun b => ([0] : List Nat).getD b 0
def xP184 : z_M := fun b => ([xB184_0] : List (List z_Op × z_Tm)).getD b z_dead
section
variable {d : Nat} {G : z_G} {l : Launch} {C : z_O}
theorem xb184_0 (hC : z_HC l G d z_tb C) : z_SB "QuotaPeersModel" prog_13_method_102_code 1 false d G l C ((Option.some Jvm.ClassFile.FieldType.int)) xp184 0 xB184_0.1 xB184_0.2 := sb_cons (n := 1) hC.1 (tz_ldA _) (so_aload_n 0 (by decide +kernel)) (sb_cons (n := 1) hC.1 (tz_cI _) (so_iconst (0) (0) (by decide +kernel) (by decide +kernel)) (sb_cons (n := 3) hC.1 (tz_pI _ _) (xp_8_0 w1151 (by decide +kernel)) (sb_cons (n := 1) hC.1 (tz_ldA _) (so_aload_n 0 (by decide +kernel)) (sb_cons (n := 3) hC.1 (tz_cvV _ _ _) (xc_150 hC w1678 (by decide +kernel)) (sb_cons (n := 1) hC.1 (tz_ldA _) (so_aload_n 0 (by decide +kernel)) (sb_cons (n := 3) hC.1 (tz_gI _ _) (xg_8_59 w1210 (by decide +kernel)) (sb_nil (tz_iret) (st_iret rfl (by decide +kernel)))))))))
theorem xm184 (hC : z_HC l G d z_tb C) : z_SM "QuotaPeersModel" prog_13_method_102_code 1 false d G l C ((Option.some Jvm.ClassFile.FieldType.int)) xp184 xP184 := by
  intro b
  match b with
  | 0 => exact xb184_0 hC
  | _ + 1 => exact sb_dead
end
/-! QuotaPeersModel.lost()I -/
def xB185_0 : List z_Op × z_Tm := ([zo_ldA 0, zo_cI (0), zo_pI 8 0, zo_ldA 0, zo_gI 8 2], zt_iret)
def xp185 : Nat → Nat := fun b => ([0] : List Nat).getD b 0
def xP185 : z_M := fun b => ([xB185_0] : List (List z_Op × z_Tm)).getD b z_dead
section
variable {d : Nat} {G : z_G} {l : Launch} {C : z_O}
theorem xb185_0 (hC : z_HC l G d z_tb C) : z_SB "QuotaPeersModel" prog_13_method_103_code 1 false d G l C ((Option.some Jvm.ClassFile.FieldType.int)) xp185 0 xB185_0.1 xB185_0.2 := sb_cons (n := 1) hC.1 (tz_ldA _) (so_aload_n 0 (by decide +kernel)) (sb_cons (n := 1) hC.1 (tz_cI _) (so_iconst (0) (0) (by decide +kernel) (by decide +kernel)) (sb_cons (n := 3) hC.1 (tz_pI _ _) (xp_8_0 w1151 (by decide +kernel)) (sb_cons (n := 1) hC.1 (tz_ldA _) (so_aload_n 0 (by decide +kernel)) (sb_cons (n := 3) hC.1 (tz_gI _ _) (xg_8_2 w1153 (by decide +kernel)) (sb_nil (tz_iret) (st_iret rfl (by decide +kernel)))))))
theorem xm185 (hC : z_HC l G d z_tb C) : z_SM "QuotaPeersModel" prog_13_method_103_code 1 false d G l C ((Option.some Jvm.ClassFile.FieldType.int)) xp185 xP185 := by
  intro b
  match b with
  | 0 => exact xb185_0 hC
  | _ + 1 => exact sb_dead
end
/-! QuotaPeers$Account.<init>(JJ)V -/
def xB186_0 : List z_Op × z_Tm := ([zo_ldA 0, zo_obj, zo_ldA 0, zo_ldJ 1, zo_pJ 10 0, zo_ldA 0, zo_ldJ 3, zo_pJ 10 1], zt_vret)
def xp186 : Nat → Nat := fun b => ([0] : List Nat).getD b 0
def xP186 : z_M := fun b => ([xB186_0] : List (List z_Op × z_Tm)).getD b z_dead
section
variable {d : Nat} {G : z_G} {l : Launch} {C : z_O}
theorem xb186_0 (hC : z_HC l G d z_tb C) : z_SB "QuotaPeers$Account" prog_2_method_1_code 5 true d G l C ((Option.none : Option Jvm.ClassFile.FieldType)) xp186 0 xB186_0.1 xB186_0.2 := sb_cons (n := 1) hC.1 (tz_ldA _) (so_aload_n 0 (by decide +kernel)) (sb_cons (n := 3) hC.1 (tz_obj) (so_obj w1097 xo_1 xo_2 (by decide +kernel)) (sb_cons (n := 1) hC.1 (tz_ldA _) (so_aload_n 0 (by decide +kernel)) (sb_cons (n := 1) hC.1 (tz_ldJ _) (so_lload_n 1 (by decide +kernel)) (sb_cons (n := 3) hC.1 (tz_pJ _ _) (xpF_10_0 rfl rfl w1098 (by decide +kernel)) (sb_cons (n := 1) hC.1 (tz_ldA _) (so_aload_n 0 (by decide +kernel)) (sb_cons (n := 1) hC.1 (tz_ldJ _) (so_lload_n 3 (by decide +kernel)) (sb_cons (n := 3) hC.1 (tz_pJ _ _) (xp_10_1 w1100 (by decide +kernel)) (sb_nil (tz_vret) (st_vret rfl (by decide +kernel))))))))))
theorem xm186 (hC : z_HC l G d z_tb C) : z_SM "QuotaPeers$Account" prog_2_method_1_code 5 true d G l C ((Option.none : Option Jvm.ClassFile.FieldType)) xp186 xP186 := by
  intro b
  match b with
  | 0 => exact xb186_0 hC
  | _ + 1 => exact sb_dead
end
/-! QuotaPeers$Account.free()J -/
def xB187_0 : List z_Op × z_Tm := ([zo_ldA 0, zo_gJ 10 1, zo_ldA 0, zo_gJ 10 2, zo_jj (· - ·)], zt_lret)
def xp187 : Nat → Nat := fun b => ([0] : List Nat).getD b 0
def xP187 : z_M := fun b => ([xB187_0] : List (List z_Op × z_Tm)).getD b z_dead
section
variable {d : Nat} {G : z_G} {l : Launch} {C : z_O}
theorem xb187_0 (hC : z_HC l G d z_tb C) : z_SB "QuotaPeers$Account" prog_2_method_2_code 1 false d G l C ((Option.some Jvm.ClassFile.FieldType.long)) xp187 0 xB187_0.1 xB187_0.2 := sb_cons (n := 1) hC.1 (tz_ldA _) (so_aload_n 0 (by decide +kernel)) (sb_cons (n := 3) hC.1 (tz_gJ _ _) (xg_10_1 w1100 (by decide +kernel)) (sb_cons (n := 1) hC.1 (tz_ldA _) (so_aload_n 0 (by decide +kernel)) (sb_cons (n := 3) hC.1 (tz_gJ _ _) (xg_10_2 w1102 (by decide +kernel)) (sb_cons (n := 1) hC.1 (tz_jj _) (so_lsub (by decide +kernel)) (sb_nil (tz_lret) (st_lret rfl (by decide +kernel)))))))
theorem xm187 (hC : z_HC l G d z_tb C) : z_SM "QuotaPeers$Account" prog_2_method_2_code 1 false d G l C ((Option.some Jvm.ClassFile.FieldType.long)) xp187 xP187 := by
  intro b
  match b with
  | 0 => exact xb187_0 hC
  | _ + 1 => exact sb_dead
end
/-! QuotaPeers$Account.charge(J)V -/
def xB188_0 : List z_Op × z_Tm := ([zo_ldA 0, zo_dupR, zo_gJ 10 1, zo_ldJ 1, zo_jj (· - ·), zo_pJ 10 1, zo_ldA 0, zo_dupR, zo_gJ 10 3, zo_ldJ 1, zo_jj (· + ·), zo_pJ 10 3], zt_vret)
def xp188 : Nat → Nat := fun b => ([0] : List Nat).getD b 0
def xP188 : z_M := fun b => ([xB188_0] : List (List z_Op × z_Tm)).getD b z_dead
section
variable {d : Nat} {G : z_G} {l : Launch} {C : z_O}
theorem xb188_0 (hC : z_HC l G d z_tb C) : z_SB "QuotaPeers$Account" prog_2_method_3_code 3 false d G l C ((Option.none : Option Jvm.ClassFile.FieldType)) xp188 0 xB188_0.1 xB188_0.2 := sb_cons (n := 1) hC.1 (tz_ldA _) (so_aload_n 0 (by decide +kernel)) (sb_cons (n := 1) hC.1 (tz_dupR) (so_dupR (by decide +kernel)) (sb_cons (n := 3) hC.1 (tz_gJ _ _) (xg_10_1 w1100 (by decide +kernel)) (sb_cons (n := 1) hC.1 (tz_ldJ _) (so_lload_n 1 (by decide +kernel)) (sb_cons (n := 1) hC.1 (tz_jj _) (so_lsub (by decide +kernel)) (sb_cons (n := 3) hC.1 (tz_pJ _ _) (xp_10_1 w1100 (by decide +kernel)) (sb_cons (n := 1) hC.1 (tz_ldA _) (so_aload_n 0 (by decide +kernel)) (sb_cons (n := 1) hC.1 (tz_dupR) (so_dupR (by decide +kernel)) (sb_cons (n := 3) hC.1 (tz_gJ _ _) (xg_10_3 w1105 (by decide +kernel)) (sb_cons (n := 1) hC.1 (tz_ldJ _) (so_lload_n 1 (by decide +kernel)) (sb_cons (n := 1) hC.1 (tz_jj _) (so_ladd (by decide +kernel)) (sb_cons (n := 3) hC.1 (tz_pJ _ _) (xp_10_3 w1105 (by decide +kernel)) (sb_nil (tz_vret) (st_vret rfl (by decide +kernel))))))))))))))
theorem xm188 (hC : z_HC l G d z_tb C) : z_SM "QuotaPeers$Account" prog_2_method_3_code 3 false d G l C ((Option.none : Option Jvm.ClassFile.FieldType)) xp188 xP188 := by
  intro b
  match b with
  | 0 => exact xb188_0 hC
  | _ + 1 => exact sb_dead
end
/-! QuotaPeers$Answer.<init>()V -/
def xB189_0 : List z_Op × z_Tm := ([zo_ldA 0, zo_obj, zo_ldA 0, zo_new 1, zo_dupR, zo_cvV 238 0 1, zo_pR 7 0, zo_ldA 0, zo_cI (300), zo_newA 72361361 300, zo_pR 7 3], zt_vret)
def xp189 : Nat → Nat := fun b => ([0] : List Nat).getD b 0
def xP189 : z_M := fun b => ([xB189_0] : List (List z_Op × z_Tm)).getD b z_dead
section
variable {d : Nat} {G : z_G} {l : Launch} {C : z_O}
theorem xb189_0 (hC : z_HC l G d z_tb C) : z_SB "QuotaPeers$Answer" prog_3_method_1_code 1 true d G l C ((Option.none : Option Jvm.ClassFile.FieldType)) xp189 0 xB189_0.1 xB189_0.2 := sb_cons (n := 1) hC.1 (tz_ldA _) (so_aload_n 0 (by decide +kernel)) (sb_cons (n := 3) hC.1 (tz_obj) (so_obj w408 xo_1 xo_2 (by decide +kernel)) (sb_cons (n := 1) hC.1 (tz_ldA _) (so_aload_n 0 (by decide +kernel)) (sb_cons (n := 3) hC.1 (tz_new _) (xn_1 w409 (by decide +kernel)) (sb_cons (n := 1) hC.1 (tz_dupR) (so_dupR (by decide +kernel)) (sb_cons (n := 3) hC.1 (tz_cvV _ _ _) (xcN_238 hC w410 (by decide +kernel)) (sb_cons (n := 3) hC.1 (tz_pR _ _) (xpF_7_0 rfl rfl w411 (by decide +kernel)) (sb_cons (n := 1) hC.1 (tz_ldA _) (so_aload_n 0 (by decide +kernel)) (sb_cons (n := 3) hC.1 (tz_cI _) (so_sipush (300) (300) (by decide +kernel) (by decide +kernel)) (sb_cons (n := 2) hC.1 (tz_newA _ _) (so_newB 72361361 300 rfl w173 (by decide +kernel) (by decide +kernel) (by decide +kernel) (by decide +kernel)) (sb_cons (n := 3) hC.1 (tz_pR _ _) (xpF_7_3 rfl rfl w415 (by decide +kernel)) (sb_nil (tz_vret) (st_vret rfl (by decide +kernel)))))))))))))
theorem xm189 (hC : z_HC l G d z_tb C) : z_SM "QuotaPeers$Answer" prog_3_method_1_code 1 true d G l C ((Option.none : Option Jvm.ClassFile.FieldType)) xp189 xP189 := by
  intro b
  match b with
  | 0 => exact xb189_0 hC
  | _ + 1 => exact sb_dead
end
/-! QuotaPeers$Link.<init>(I)V -/
def xB190_0 : List z_Op × z_Tm := ([zo_ldA 0, zo_obj, zo_ldA 0, zo_cI (600), zo_newA 73419537 600, zo_pR 4 4, zo_ldA 0, zo_cI (2000), zo_newA 74512913 2000, zo_pR 4 6, zo_ldA 0, zo_ldI 1, zo_pI 4 0], zt_vret)
def xp190 : Nat → Nat := fun b => ([0] : List Nat).getD b 0
def xP190 : z_M := fun b => ([xB190_0] : List (List z_Op × z_Tm)).getD b z_dead
section
variable {d : Nat} {G : z_G} {l : Launch} {C : z_O}
theorem xb190_0 (hC : z_HC l G d z_tb C) : z_SB "QuotaPeers$Link" prog_5_method_1_code 2 true d G l C ((Option.none : Option Jvm.ClassFile.FieldType)) xp190 0 xB190_0.1 xB190_0.2 := sb_cons (n := 1) hC.1 (tz_ldA _) (so_aload_n 0 (by decide +kernel)) (sb_cons (n := 3) hC.1 (tz_obj) (so_obj w296 xo_1 xo_2 (by decide +kernel)) (sb_cons (n := 1) hC.1 (tz_ldA _) (so_aload_n 0 (by decide +kernel)) (sb_cons (n := 3) hC.1 (tz_cI _) (so_sipush (600) (600) (by decide +kernel) (by decide +kernel)) (sb_cons (n := 2) hC.1 (tz_newA _ _) (so_newB 73419537 600 rfl w173 (by decide +kernel) (by decide +kernel) (by decide +kernel) (by decide +kernel)) (sb_cons (n := 3) hC.1 (tz_pR _ _) (xpF_4_4 rfl rfl w305 (by decide +kernel)) (sb_cons (n := 1) hC.1 (tz_ldA _) (so_aload_n 0 (by decide +kernel)) (sb_cons (n := 3) hC.1 (tz_cI _) (so_sipush (2000) (2000) (by decide +kernel) (by decide +kernel)) (sb_cons (n := 2) hC.1 (tz_newA _ _) (so_newB 74512913 2000 rfl w173 (by decide +kernel) (by decide +kernel) (by decide +kernel) (by decide +kernel)) (sb_cons (n := 3) hC.1 (tz_pR _ _) (xpF_4_6 rfl rfl w309 (by decide +kernel)) (sb_cons (n := 1) hC.1 (tz_ldA _) (so_aload_n 0 (by decide +kernel)) (sb_cons (n := 1) hC.1 (tz_ldI _) (so_iload_n 1 (by decide +kernel)) (sb_cons (n := 3) hC.1 (tz_pI _ _) (xpF_4_0 rfl rfl w297 (by decide +kernel)) (sb_nil (tz_vret) (st_vret rfl (by decide +kernel)))))))))))))))
theorem xm190 (hC : z_HC l G d z_tb C) : z_SM "QuotaPeers$Link" prog_5_method_1_code 2 true d G l C ((Option.none : Option Jvm.ClassFile.FieldType)) xp190 xP190 := by
  intro b
  match b with
  | 0 => exact xb190_0 hC
  | _ + 1 => exact sb_dead
end
/-! QuotaPeers$Link.isOpen()Z -/
def xB191_0 : List z_Op × z_Tm := ([zo_ldA 0, zo_gI 4 1, zo_cI (2)], zt_icmp (fun x y => x = y) 1 [false] 2 [false])
def xB191_1 : List z_Op × z_Tm := ([zo_cI (1)], zt_goto 3 [false])
def xB191_2 : List z_Op × z_Tm := ([zo_cI (0)], zt_goto 3 [false])
def xB191_3 : List z_Op × z_Tm := ([], zt_zret)
def xp191 : Nat → Nat := fun b => ([0, 8, 12, 13] : List Nat).getD b 0
def xP191 : z_M := fun b => ([xB191_0, xB191_1, xB191_2, xB191_3] : List (List z_Op × z_Tm)).getD b z_dead
section
variable {d : Nat} {G : z_G} {l : Launch} {C : z_O}
theorem xb191_0 (hC : z_HC l G d z_tb C) : z_SB "QuotaPeers$Link" prog_5_method_2_code 1 false d G l C ((Option.some Jvm.ClassFile.FieldType.boolean)) xp191 0 xB191_0.1 xB191_0.2 := sb_cons (n := 1) hC.1 (tz_ldA _) (so_aload_n 0 (by decide +kernel)) (sb_cons (n := 3) hC.1 (tz_gI _ _) (xg_4_1 w299 (by decide +kernel)) (sb_cons (n := 1) hC.1 (tz_cI _) (so_iconst (2) (2) (by decide +kernel) (by decide +kernel)) (sb_nil (tz_icmp _ _ _ _ _) (st_icmp_ne (off := 7) (by decide) (by decide) (by decide +kernel)))))
theorem xb191_1 (hC : z_HC l G d z_tb C) : z_SB "QuotaPeers$Link" prog_5_method_2_code 1 false d G l C ((Option.some Jvm.ClassFile.FieldType.boolean)) xp191 8 xB191_1.1 xB191_1.2 := sb_cons (n := 1) hC.1 (tz_cI _) (so_iconst (1) (1) (by decide +kernel) (by decide +kernel)) (sb_nil (tz_goto _ _) (st_goto (off := 4) (by decide) (by decide +kernel)))
theorem xb191_2 (hC : z_HC l G d z_tb C) : z_SB "QuotaPeers$Link" prog_5_method_2_code 1 false d G l C ((Option.some Jvm.ClassFile.FieldType.boolean)) xp191 12 xB191_2.1 xB191_2.2 := sb_cons (n := 1) hC.1 (tz_cI _) (so_iconst (0) (0) (by decide +kernel) (by decide +kernel)) (sb_nil (tz_goto _ _) (st_fall (by decide)))
theorem xb191_3 (hC : z_HC l G d z_tb C) : z_SB "QuotaPeers$Link" prog_5_method_2_code 1 false d G l C ((Option.some Jvm.ClassFile.FieldType.boolean)) xp191 13 xB191_3.1 xB191_3.2 := sb_nil (tz_zret) (st_zret rfl (by decide +kernel))
theorem xm191 (hC : z_HC l G d z_tb C) : z_SM "QuotaPeers$Link" prog_5_method_2_code 1 false d G l C ((Option.some Jvm.ClassFile.FieldType.boolean)) xp191 xP191 := by
  intro b
  match b with
  | 0 => exact xb191_0 hC
  | 1 => exact xb191_1 hC
  | 2 => exact xb191_2 hC
  | 3 => exact xb191_3 hC
  | _ + 4 => exact sb_dead
end
/-! QuotaPeers$Link.begin(ILQuotaPeers$Peer;)V -/
def xB192_0 : List z_Op × z_Tm := ([zo_ldA 0, zo_ldI 1, zo_pI 4 1, zo_ldA 0, zo_ldA 2, zo_pR 4 2, zo_ldA 0, zo_ldA 2], zt_null 2 [true, false, false] 1 [true, false, false])
def xB192_1 : List z_Op × z_Tm := ([zo_cI (1)], zt_goto 3 [true, false, false])
def xB192_2 : List z_Op × z_Tm := ([zo_cI (0)], zt_goto 3 [true, false, false])
def xB192_3 : List z_Op × z_Tm := ([zo_pZ 4 3, zo_ldA 0, zo_cI (0), zo_pI 4 5, zo_ldA 0, zo_cI (0), zo_pI 4 7, zo_ldA 0, zo_cI (0), zo_pI 4 8], zt_vret)
def xp192 : Nat → Nat := fun b => ([0, 15, 19, 20] : List Nat).getD b 0
def xP192 : z_M := fun b => ([xB192_0, xB192_1, xB192_2, xB192_3] : List (List z_Op × z_Tm)).getD b z_dead
section
variable {d : Nat} {G : z_G} {l : Launch} {C : z_O}
theorem xb192_0 (hC : z_HC l G d z_tb C) : z_SB "QuotaPeers$Link" prog_5_method_3_code 3 false d G l C ((Option.none : Option Jvm.ClassFile.FieldType)) xp192 0 xB192_0.1 xB192_0.2 := sb_cons (n := 1) hC.1 (tz_ldA _) (so_aload_n 0 (by decide +kernel)) (sb_cons (n := 1) hC.1 (tz_ldI _) (so_iload_n 1 (by decide +kernel)) (sb_cons (n := 3) hC.1 (tz_pI _ _) (xp_4_1 w299 (by decide +kernel)) (sb_cons (n := 1) hC.1 (tz_ldA _) (so_aload_n 0 (by decide +kernel)) (sb_cons (n := 1) hC.1 (tz_ldA _) (so_aload_n 2 (by decide +kernel)) (sb_cons (n := 3) hC.1 (tz_pR _ _) (xp_4_2 w301 (by decide +kernel)) (sb_cons (n := 1) hC.1 (tz_ldA _) (so_aload_n 0 (by decide +kernel)) (sb_cons (n := 1) hC.1 (tz_ldA _) (so_aload_n 2 (by decide +kernel)) (sb_nil (tz_nul _ _ _ _) (st_ifnull (off := 7) (by decide) (by decide) (by decide +kernel))))))))))
theorem xb192_1 (hC : z_HC l G d z_tb C) : z_SB "QuotaPeers$Link" prog_5_method_3_code 3 false d G l C ((Option.none : Option Jvm.ClassFile.FieldType)) xp192 15 xB192_1.1 xB192_1.2 := sb_cons (n := 1) hC.1 (tz_cI _) (so_iconst (1) (1) (by decide +kernel) (by decide +kernel)) (sb_nil (tz_goto _ _) (st_goto (off := 4) (by decide) (by decide +kernel)))
theorem xb192_2 (hC : z_HC l G d z_tb C) : z_SB "QuotaPeers$Link" prog_5_method_3_code 3 false d G l C ((Option.none : Option Jvm.ClassFile.FieldType)) xp192 19 xB192_2.1 xB192_2.2 := sb_cons (n := 1) hC.1 (tz_cI _) (so_iconst (0) (0) (by decide +kernel) (by decide +kernel)) (sb_nil (tz_goto _ _) (st_fall (by decide)))
theorem xb192_3 (hC : z_HC l G d z_tb C) : z_SB "QuotaPeers$Link" prog_5_method_3_code 3 false d G l C ((Option.none : Option Jvm.ClassFile.FieldType)) xp192 20 xB192_3.1 xB192_3.2 := sb_cons (n := 3) hC.1 (tz_pZ _ _) (xp_4_3 w303 (by decide +kernel)) (sb_cons (n := 1) hC.1 (tz_ldA _) (so_aload_n 0 (by decide +kernel)) (sb_cons (n := 1) hC.1 (tz_cI _) (so_iconst (0) (0) (by decide +kernel) (by decide +kernel)) (sb_cons (n := 3) hC.1 (tz_pI _ _) (xp_4_5 w307 (by decide +kernel)) (sb_cons (n := 1) hC.1 (tz_ldA _) (so_aload_n 0 (by decide +kernel)) (sb_cons (n := 1) hC.1 (tz_cI _) (so_iconst (0) (0) (by decide +kernel) (by decide +kernel)) (sb_cons (n := 3) hC.1 (tz_pI _ _) (xp_4_7 w310 (by decide +kernel)) (sb_cons (n := 1) hC.1 (tz_ldA _) (so_aload_n 0 (by decide +kernel)) (sb_cons (n := 1) hC.1 (tz_cI _) (so_iconst (0) (0) (by decide +kernel) (by decide +kernel)) (sb_cons (n := 3) hC.1 (tz_pI _ _) (xp_4_8 w311 (by decide +kernel)) (sb_nil (tz_vret) (st_vret rfl (by decide +kernel))))))))))))
theorem xm192 (hC : z_HC l G d z_tb C) : z_SM "QuotaPeers$Link" prog_5_method_3_code 3 false d G l C ((Option.none : Option Jvm.ClassFile.FieldType)) xp192 xP192 := by
  intro b
  match b with
  | 0 => exact xb192_0 hC
  | 1 => exact xb192_1 hC
  | 2 => exact xb192_2 hC
  | 3 => exact xb192_3 hC
  | _ + 4 => exact sb_dead
end
/-! QuotaPeers$Link.close()V -/
def xB193_0 : List z_Op × z_Tm := ([zo_ldA 0, zo_cI (0), zo_pI 4 1, zo_ldA 0, zo_null, zo_pR 4 2, zo_ldA 0, zo_cI (0), zo_pZ 4 3, zo_ldA 0, zo_cI (0), zo_pI 4 5], zt_vret)
def xp193 : Nat → Nat := fun b => ([0] : List Nat).getD b 0
def xP193 : z_M := fun b => ([xB193_0] : List (List z_Op × z_Tm)).getD b z_dead
section
variable {d : Nat} {G : z_G} {l : Launch} {C : z_O}
theorem xb193_0 (hC : z_HC l G d z_tb C) : z_SB "QuotaPeers$Link" prog_5_method_4_code 1 false d G l C ((Option.none : Option Jvm.ClassFile.FieldType)) xp193 0 xB193_0.1 xB193_0.2 := sb_cons (n := 1) hC.1 (tz_ldA _) (so_aload_n 0 (by decide +kernel)) (sb_cons (n := 1) hC.1 (tz_cI _) (so_iconst (0) (0) (by decide +kernel) (by decide +kernel)) (sb_cons (n := 3) hC.1 (tz_pI _ _) (xp_4_1 w299 (by decide +kernel)) (sb_cons (n := 1) hC.1 (tz_ldA _) (so_aload_n 0 (by decide +kernel)) (sb_cons (n := 1) hC.1 (tz_null) (so_null (by decide +kernel)) (sb_cons (n := 3) hC.1 (tz_pR _ _) (xp_4_2 w301 (by decide +kernel)) (sb_cons (n := 1) hC.1 (tz_ldA _) (so_aload_n 0 (by decide +kernel)) (sb_cons (n := 1) hC.1 (tz_cI _) (so_iconst (0) (0) (by decide +kernel) (by decide +kernel)) (sb_cons (n := 3) hC.1 (tz_pZ _ _) (xp_4_3 w303 (by decide +kernel)) (sb_cons (n := 1) hC.1 (tz_ldA _) (so_aload_n 0 (by decide +kernel)) (sb_cons (n := 1) hC.1 (tz_cI _) (so_iconst (0) (0) (by decide +kernel) (by decide +kernel)) (sb_cons (n := 3) hC.1 (tz_pI _ _) (xp_4_5 w307 (by decide +kernel)) (sb_nil (tz_vret) (st_vret rfl (by decide +kernel))))))))))))))
theorem xm193 (hC : z_HC l G d z_tb C) : z_SM "QuotaPeers$Link" prog_5_method_4_code 1 false d G l C ((Option.none : Option Jvm.ClassFile.FieldType)) xp193 xP193 := by
  intro b
  match b with
  | 0 => exact xb193_0 hC
  | _ + 1 => exact sb_dead
end
/-! QuotaPeers$Link.put([BI)Z -/
def xB194_0 : List z_Op × z_Tm := ([zo_ldA 0, zo_gI 4 8, zo_ldI 2, zo_ii ((· + ·)), zo_cI (2000)], zt_icmp (fun x y => x ≤ y) 2 [true, true, true, false] 1 [false, false, false, false])
def xB194_1 : List z_Op × z_Tm := ([zo_cI (0)], zt_zret)
def xB194_2 : List z_Op × z_Tm := ([zo_cI (0), zo_stI 3], zt_goto 3 [true, true, true, true])
def xB194_3 : List z_Op × z_Tm := ([zo_ldI 3, zo_ldI 2], zt_icmp (fun x y => y ≤ x) 5 [true, false, true, false] 4 [true, true, true, true])
def xB194_4 : List z_Op × z_Tm := ([zo_ldA 0, zo_gR 4 6, zo_ldA 0, zo_gI 4 7, zo_ldA 0, zo_gI 4 8, zo_ii ((· + ·)), zo_ldI 3, zo_ii ((· + ·)), zo_cI (2000), zo_rem, zo_ldA 1, zo_ldI 3, zo_aldI 17, zo_astB, zo_inc 3 (1)], zt_goto 3 [true, true, true, true])
def xB194_5 : List z_Op × z_Tm := ([zo_ldA 0, zo_dupR, zo_gI 4 8, zo_ldI 2, zo_ii ((· + ·)), zo_pI 4 8, zo_cI (1)], zt_zret)
def xp194 : Nat → Nat := fun b => ([0, 12, 14, 16, 21, 50] : List Nat).getD b 0
def xP194 : z_M := fun b => ([xB194_0, xB194_1, xB194_2, xB194_3, xB194_4, xB194_5] : List (List z_Op × z_Tm)).getD b z_dead
section
variable {d : Nat} {G : z_G} {l : Launch} {C : z_O}
theorem xb194_0 (hC : z_HC l G d z_tb C) : z_SB "QuotaPeers$Link" prog_5_method_5_code 4 false d G l C ((Option.some Jvm.ClassFile.FieldType.boolean)) xp194 0 xB194_0.1 xB194_0.2 := sb_cons (n := 1) hC.1 (tz_ldA _) (so_aload_n 0 (by decide +kernel)) (sb_cons (n := 3) hC.1 (tz_gI _ _) (xg_4_8 w311 (by decide +kernel)) (sb_cons (n := 1) hC.1 (tz_ldI _) (so_iload_n 2 (by decide +kernel)) (sb_cons (n := 1) hC.1 (tz_ii _) (so_iadd (by decide +kernel)) (sb_cons (n := 3) hC.1 (tz_cI _) (so_sipush (2000) (2000) (by decide +kernel) (by decide +kernel)) (sb_nil (tz_icmp _ _ _ _ _) (st_icmp_le (off := 5) (by decide) (by decide) (by decide +kernel)))))))
theorem xb194_1 (hC : z_HC l G d z_tb C) : z_SB "QuotaPeers$Link" prog_5_method_5_code 4 false d G l C ((Option.some Jvm.ClassFile.FieldType.boolean)) xp194 12 xB194_1.1 xB194_1.2 := sb_cons (n := 1) hC.1 (tz_cI _) (so_iconst (0) (0) (by decide +kernel) (by decide +kernel)) (sb_nil (tz_zret) (st_zret rfl (by decide +kernel)))
theorem xb194_2 (hC : z_HC l G d z_tb C) : z_SB "QuotaPeers$Link" prog_5_method_5_code 4 false d G l C ((Option.some Jvm.ClassFile.FieldType.boolean)) xp194 14 xB194_2.1 xB194_2.2 := sb_cons (n := 1) hC.1 (tz_cI _) (so_iconst (0) (0) (by decide +kernel) (by decide +kernel)) (sb_cons (n := 1) hC.1 (tz_stI _) (so_istore_n 3 (by decide) (by decide +kernel)) (sb_nil (tz_goto _ _) (st_fall (by decide))))
theorem xb194_3 (hC : z_HC l G d z_tb C) : z_SB "QuotaPeers$Link" prog_5_method_5_code 4 false d G l C ((Option.some Jvm.ClassFile.FieldType.boolean)) xp194 16 xB194_3.1 xB194_3.2 := sb_cons (n := 1) hC.1 (tz_ldI _) (so_iload_n 3 (by decide +kernel)) (sb_cons (n := 1) hC.1 (tz_ldI _) (so_iload_n 2 (by decide +kernel)) (sb_nil (tz_icmp _ _ _ _ _) (st_icmp_ge (off := 32) (by decide) (by decide) (by decide +kernel))))
theorem xb194_4 (hC : z_HC l G d z_tb C) : z_SB "QuotaPeers$Link" prog_5_method_5_code 4 false d G l C ((Option.some Jvm.ClassFile.FieldType.boolean)) xp194 21 xB194_4.1 xB194_4.2 := sb_cons (n := 1) hC.1 (tz_ldA _) (so_aload_n 0 (by decide +kernel)) (sb_cons (n := 3) hC.1 (tz_gR _ _) (xg_4_6 w309 (by decide +kernel)) (sb_cons (n := 1) hC.1 (tz_ldA _) (so_aload_n 0 (by decide +kernel)) (sb_cons (n := 3) hC.1 (tz_gI _ _) (xg_4_7 w310 (by decide +kernel)) (sb_cons (n := 1) hC.1 (tz_ldA _) (so_aload_n 0 (by decide +kernel)) (sb_cons (n := 3) hC.1 (tz_gI _ _) (xg_4_8 w311 (by decide +kernel)) (sb_cons (n := 1) hC.1 (tz_ii _) (so_iadd (by decide +kernel)) (sb_cons (n := 1) hC.1 (tz_ldI _) (so_iload_n 3 (by decide +kernel)) (sb_cons (n := 1) hC.1 (tz_ii _) (so_iadd (by decide +kernel)) (sb_cons (n := 3) hC.1 (tz_cI _) (so_sipush (2000) (2000) (by decide +kernel) (by decide +kernel)) (sb_cons (n := 1) hC.1 (tz_rem) (so_irem (by decide +kernel)) (sb_cons (n := 1) hC.1 (tz_ldA _) (so_aload_n 1 (by decide +kernel)) (sb_cons (n := 1) hC.1 (tz_ldI _) (so_iload_n 3 (by decide +kernel)) (sb_cons (n := 1) hC.1 (tz_aldI _) (so_baload (by decide +kernel)) (sb_cons (n := 1) hC.1 (tz_astB) (so_bastore (by decide +kernel)) (sb_cons (n := 3) hC.1 (tz_inc _ _) (so_iinc 3 (1) (1) (by decide +kernel) (by decide) (by decide +kernel)) (sb_nil (tz_goto _ _) (st_goto (off := -31) (by decide) (by decide +kernel))))))))))))))))))
theorem xb194_5 (hC : z_HC l G d z_tb C) : z_SB "QuotaPeers$Link" prog_5_method_5_code 4 false d G l C ((Option.some Jvm.ClassFile.FieldType.boolean)) xp194 50 xB194_5.1 xB194_5.2 := sb_cons (n := 1) hC.1 (tz_ldA _) (so_aload_n 0 (by decide +kernel)) (sb_cons (n := 1) hC.1 (tz_dupR) (so_dupR (by decide +kernel)) (sb_cons (n := 3) hC.1 (tz_gI _ _) (xg_4_8 w311 (by decide +kernel)) (sb_cons (n := 1) hC.1 (tz_ldI _) (so_iload_n 2 (by decide +kernel)) (sb_cons (n := 1) hC.1 (tz_ii _) (so_iadd (by decide +kernel)) (sb_cons (n := 3) hC.1 (tz_pI _ _) (xp_4_8 w311 (by decide +kernel)) (sb_cons (n := 1) hC.1 (tz_cI _) (so_iconst (1) (1) (by decide +kernel) (by decide +kernel)) (sb_nil (tz_zret) (st_zret rfl (by decide +kernel)))))))))
theorem xm194 (hC : z_HC l G d z_tb C) : z_SM "QuotaPeers$Link" prog_5_method_5_code 4 false d G l C ((Option.some Jvm.ClassFile.FieldType.boolean)) xp194 xP194 := by
  intro b
  match b with
  | 0 => exact xb194_0 hC
  | 1 => exact xb194_1 hC
  | 2 => exact xb194_2 hC
  | 3 => exact xb194_3 hC
  | 4 => exact xb194_4 hC
  | 5 => exact xb194_5 hC
  | _ + 6 => exact sb_dead
end
/-! QuotaPeers$Link.take()I -/
def xB195_0 : List z_Op × z_Tm := ([zo_ldA 0, zo_gR 4 6, zo_ldA 0, zo_gI 4 7, zo_aldI 17, zo_cI (255), zo_ii ((· &&& ·)), zo_stI 1, zo_ldA 0, zo_ldA 0, zo_gI 4 7, zo_cI (1), zo_ii ((· + ·)), zo_cI (2000), zo_rem, zo_pI 4 7, zo_ldA 0, zo_dupR, zo_gI 4 8, zo_cI (1), zo_ii ((· - ·)), zo_pI 4 8, zo_ldI 1], zt_iret)
def xp195 : Nat → Nat := fun b => ([0] : List Nat).getD b 0
def xP195 : z_M := fun b => ([xB195_0] : List (List z_Op × z_Tm)).getD b z_dead
section
variable {d : Nat} {G : z_G} {l : Launch} {C : z_O}
theorem xb195_0 (hC : z_HC l G d z_tb C) : z_SB "QuotaPeers$Link" prog_5_method_6_code 2 false d G l C ((Option.some Jvm.ClassFile.FieldType.int)) xp195 0 xB195_0.1 xB195_0.2 := sb_cons (n := 1) hC.1 (tz_ldA _) (so_aload_n 0 (by decide +kernel)) (sb_cons (n := 3) hC.1 (tz_gR _ _) (xg_4_6 w309 (by decide +kernel)) (sb_cons (n := 1) hC.1 (tz_ldA _) (so_aload_n 0 (by decide +kernel)) (sb_cons (n := 3) hC.1 (tz_gI _ _) (xg_4_7 w310 (by decide +kernel)) (sb_cons (n := 1) hC.1 (tz_aldI _) (so_baload (by decide +kernel)) (sb_cons (n := 3) hC.1 (tz_cI _) (so_sipush (255) (255) (by decide +kernel) (by decide +kernel)) (sb_cons (n := 1) hC.1 (tz_ii _) (so_iand (by decide +kernel)) (sb_cons (n := 1) hC.1 (tz_stI _) (so_istore_n 1 (by decide) (by decide +kernel)) (sb_cons (n := 1) hC.1 (tz_ldA _) (so_aload_n 0 (by decide +kernel)) (sb_cons (n := 1) hC.1 (tz_ldA _) (so_aload_n 0 (by decide +kernel)) (sb_cons (n := 3) hC.1 (tz_gI _ _) (xg_4_7 w310 (by decide +kernel)) (sb_cons (n := 1) hC.1 (tz_cI _) (so_iconst (1) (1) (by decide +kernel) (by decide +kernel)) (sb_cons (n := 1) hC.1 (tz_ii _) (so_iadd (by decide +kernel)) (sb_cons (n := 3) hC.1 (tz_cI _) (so_sipush (2000) (2000) (by decide +kernel) (by decide +kernel)) (sb_cons (n := 1) hC.1 (tz_rem) (so_irem (by decide +kernel)) (sb_cons (n := 3) hC.1 (tz_pI _ _) (xp_4_7 w310 (by decide +kernel)) (sb_cons (n := 1) hC.1 (tz_ldA _) (so_aload_n 0 (by decide +kernel)) (sb_cons (n := 1) hC.1 (tz_dupR) (so_dupR (by decide +kernel)) (sb_cons (n := 3) hC.1 (tz_gI _ _) (xg_4_8 w311 (by decide +kernel)) (sb_cons (n := 1) hC.1 (tz_cI _) (so_iconst (1) (1) (by decide +kernel) (by decide +kernel)) (sb_cons (n := 1) hC.1 (tz_ii _) (so_isub (by decide +kernel)) (sb_cons (n := 3) hC.1 (tz_pI _ _) (xp_4_8 w311 (by decide +kernel)) (sb_cons (n := 1) hC.1 (tz_ldI _) (so_iload_n 1 (by decide +kernel)) (sb_nil (tz_iret) (st_iret rfl (by decide +kernel)))))))))))))))))))))))))
theorem xm195 (hC : z_HC l G d z_tb C) : z_SM "QuotaPeers$Link" prog_5_method_6_code 2 false d G l C ((Option.some Jvm.ClassFile.FieldType.int)) xp195 xP195 := by
  intro b
  match b with
  | 0 => exact xb195_0 hC
  | _ + 1 => exact sb_dead
end
/-! QuotaPeers$Message.<init>()V -/
def xB196_0 : List z_Op × z_Tm := ([zo_ldA 0, zo_obj, zo_ldA 0, zo_crS 247 0, zo_pR 3 0, zo_ldA 0, zo_cI (80), zo_newA 76548624 80, zo_pR 3 8, zo_ldA 0, zo_cI (80), zo_newA 77597200 80, zo_pR 3 9, zo_ldA 0, zo_cI (80), zo_newA 78645776 80, zo_pR 3 10], zt_vret)
def xp196 : Nat → Nat := fun b => ([0] : List Nat).getD b 0
def xP196 : z_M := fun b => ([xB196_0] : List (List z_Op × z_Tm)).getD b z_dead
section
variable {d : Nat} {G : z_G} {l : Launch} {C : z_O}
theorem xb196_0 (hC : z_HC l G d z_tb C) : z_SB "QuotaPeers$Message" prog_6_method_1_code 1 true d G l C ((Option.none : Option Jvm.ClassFile.FieldType)) xp196 0 xB196_0.1 xB196_0.2 := sb_cons (n := 1) hC.1 (tz_ldA _) (so_aload_n 0 (by decide +kernel)) (sb_cons (n := 3) hC.1 (tz_obj) (so_obj w194 xo_1 xo_2 (by decide +kernel)) (sb_cons (n := 1) hC.1 (tz_ldA _) (so_aload_n 0 (by decide +kernel)) (sb_cons (n := 3) hC.1 (tz_crS _ _) (xc_247 hC w195 (by decide +kernel)) (sb_cons (n := 3) hC.1 (tz_pR _ _) (xpF_3_0 rfl rfl w208 (by decide +kernel)) (sb_cons (n := 1) hC.1 (tz_ldA _) (so_aload_n 0 (by decide +kernel)) (sb_cons (n := 2) hC.1 (tz_cI _) (so_bipush (80) (80) (by decide +kernel) (by decide +kernel)) (sb_cons (n := 2) hC.1 (tz_newA _ _) (so_newI 76548624 80 rfl w267 (by decide +kernel) (by decide +kernel) (by decide +kernel) (by decide +kernel)) (sb_cons (n := 3) hC.1 (tz_pR _ _) (xpF_3_8 rfl rfl w222 (by decide +kernel)) (sb_cons (n := 1) hC.1 (tz_ldA _) (so_aload_n 0 (by decide +kernel)) (sb_cons (n := 2) hC.1 (tz_cI _) (so_bipush (80) (80) (by decide +kernel) (by decide +kernel)) (sb_cons (n := 2) hC.1 (tz_newA _ _) (so_newI 77597200 80 rfl w267 (by decide +kernel) (by decide +kernel) (by decide +kernel) (by decide +kernel)) (sb_cons (n := 3) hC.1 (tz_pR _ _) (xpF_3_9 rfl rfl w224 (by decide +kernel)) (sb_cons (n := 1) hC.1 (tz_ldA _) (so_aload_n 0 (by decide +kernel)) (sb_cons (n := 2) hC.1 (tz_cI _) (so_bipush (80) (80) (by decide +kernel) (by decide +kernel)) (sb_cons (n := 2) hC.1 (tz_newA _ _) (so_newI 78645776 80 rfl w267 (by decide +kernel) (by decide +kernel) (by decide +kernel) (by decide +kernel)) (sb_cons (n := 3) hC.1 (tz_pR _ _) (xpF_3_10 rfl rfl w226 (by decide +kernel)) (sb_nil (tz_vret) (st_vret rfl (by decide +kernel)))))))))))))))))))
theorem xm196 (hC : z_HC l G d z_tb C) : z_SM "QuotaPeers$Message" prog_6_method_1_code 1 true d G l C ((Option.none : Option Jvm.ClassFile.FieldType)) xp196 xP196 := by
  intro b
  match b with
  | 0 => exact xb196_0 hC
  | _ + 1 => exact sb_dead
end
/-! QuotaPeers$Message.get(II)J -/
def xB197_0 : List z_Op × z_Tm := ([zo_cJ (0), zo_stJ 3, zo_cI (0), zo_stI 5], zt_goto 1 [true, true, true, true, false, true])
def xB197_1 : List z_Op × z_Tm := ([zo_ldI 5, zo_ldI 2], zt_icmp (fun x y => y ≤ x) 3 [false, false, false, true, false, false] 2 [true, true, true, true, false, true])
def xB197_2 : List z_Op × z_Tm := ([zo_ldJ 3, zo_cI (8), zo_lshl, zo_ldA 0, zo_gR 3 1, zo_ldI 1, zo_ldI 5, zo_ii ((· + ·)), zo_aldI 17, zo_cI (255), zo_ii ((· &&& ·)), zo_i2l, zo_jj (· ||| ·), zo_stJ 3, zo_inc 5 (1)], zt_goto 1 [true, true, true, true, false, true])
def xB197_3 : List z_Op × z_Tm := ([zo_ldJ 3], zt_lret)
def xp197 : Nat → Nat := fun b => ([0, 5, 11, 37] : List Nat).getD b 0
def xP197 : z_M := fun b => ([xB197_0, xB197_1, xB197_2, xB197_3] : List (List z_Op × z_Tm)).getD b z_dead
section
variable {d : Nat} {G : z_G} {l : Launch} {C : z_O}
theorem xb197_0 (hC : z_HC l G d z_tb C) : z_SB "QuotaPeers$Message" prog_6_method_2_code 6 false d G l C ((Option.some Jvm.ClassFile.FieldType.long)) xp197 0 xB197_0.1 xB197_0.2 := sb_cons (n := 1) hC.1 (tz_cJ _) (so_lconst 0 (0) (by decide +kernel) (by decide +kernel)) (sb_cons (n := 1) hC.1 (tz_stJ _) (so_lstore_n 3 (by decide) (by decide +kernel)) (sb_cons (n := 1) hC.1 (tz_cI _) (so_iconst (0) (0) (by decide +kernel) (by decide +kernel)) (sb_cons (n := 2) hC.1 (tz_stI _) (so_istore 5 (by decide) (by decide +kernel)) (sb_nil (tz_goto _ _) (st_fall (by decide))))))
theorem xb197_1 (hC : z_HC l G d z_tb C) : z_SB "QuotaPeers$Message" prog_6_method_2_code 6 false d G l C ((Option.some Jvm.ClassFile.FieldType.long)) xp197 5 xB197_1.1 xB197_1.2 := sb_cons (n := 2) hC.1 (tz_ldI _) (so_iload 5 (by decide +kernel)) (sb_cons (n := 1) hC.1 (tz_ldI _) (so_iload_n 2 (by decide +kernel)) (sb_nil (tz_icmp _ _ _ _ _) (st_icmp_ge (off := 29) (by decide) (by decide) (by decide +kernel))))
theorem xb197_2 (hC : z_HC l G d z_tb C) : z_SB "QuotaPeers$Message" prog_6_method_2_code 6 false d G l C ((Option.some Jvm.ClassFile.FieldType.long)) xp197 11 xB197_2.1 xB197_2.2 := sb_cons (n := 1) hC.1 (tz_ldJ _) (so_lload_n 3 (by decide +kernel)) (sb_cons (n := 2) hC.1 (tz_cI _) (so_bipush (8) (8) (by decide +kernel) (by decide +kernel)) (sb_cons (n := 1) hC.1 (tz_lshl) (so_lshl (by decide +kernel)) (sb_cons (n := 1) hC.1 (tz_ldA _) (so_aload_n 0 (by decide +kernel)) (sb_cons (n := 3) hC.1 (tz_gR _ _) (xg_3_1 w209 (by decide +kernel)) (sb_cons (n := 1) hC.1 (tz_ldI _) (so_iload_n 1 (by decide +kernel)) (sb_cons (n := 2) hC.1 (tz_ldI _) (so_iload 5 (by decide +kernel)) (sb_cons (n := 1) hC.1 (tz_ii _) (so_iadd (by decide +kernel)) (sb_cons (n := 1) hC.1 (tz_aldI _) (so_baload (by decide +kernel)) (sb_cons (n := 3) hC.1 (tz_cI _) (so_sipush (255) (255) (by decide +kernel) (by decide +kernel)) (sb_cons (n := 1) hC.1 (tz_ii _) (so_iand (by decide +kernel)) (sb_cons (n := 1) hC.1 (tz_i2l) (so_i2l (by decide +kernel)) (sb_cons (n := 1) hC.1 (tz_jj _) (so_lor (by decide +kernel)) (sb_cons (n := 1) hC.1 (tz_stJ _) (so_lstore_n 3 (by decide) (by decide +kernel)) (sb_cons (n := 3) hC.1 (tz_inc _ _) (so_iinc 5 (1) (1) (by decide +kernel) (by decide) (by decide +kernel)) (sb_nil (tz_goto _ _) (st_goto (off := -29) (by decide) (by decide +kernel)))))))))))))))))
theorem xb197_3 (hC : z_HC l G d z_tb C) : z_SB "QuotaPeers$Message" prog_6_method_2_code 6 false d G l C ((Option.some Jvm.ClassFile.FieldType.long)) xp197 37 xB197_3.1 xB197_3.2 := sb_cons (n := 1) hC.1 (tz_ldJ _) (so_lload_n 3 (by decide +kernel)) (sb_nil (tz_lret) (st_lret rfl (by decide +kernel)))
theorem xm197 (hC : z_HC l G d z_tb C) : z_SM "QuotaPeers$Message" prog_6_method_2_code 6 false d G l C ((Option.some Jvm.ClassFile.FieldType.long)) xp197 xP197 := by
  intro b
  match b with
  | 0 => exact xb197_0 hC
  | 1 => exact xb197_1 hC
  | 2 => exact xb197_2 hC
  | 3 => exact xb197_3 hC
  | _ + 4 => exact sb_dead
end
/-! QuotaPeers$Message.isRequest()Z -/
def xB198_0 : List z_Op × z_Tm := ([zo_ldA 0, zo_gI 3 3, zo_cI (128), zo_ii ((· &&& ·))], zt_if (fun x => x = 0) 2 [false] 1 [false])
def xB198_1 : List z_Op × z_Tm := ([zo_cI (1)], zt_goto 3 [false])
def xB198_2 : List z_Op × z_Tm := ([zo_cI (0)], zt_goto 3 [false])
def xB198_3 : List z_Op × z_Tm := ([], zt_zret)
def xp198 : Nat → Nat := fun b => ([0, 11, 15, 16] : List Nat).getD b 0
def xP198 : z_M := fun b => ([xB198_0, xB198_1, xB198_2, xB198_3] : List (List z_Op × z_Tm)).getD b z_dead
section
variable {d : Nat} {G : z_G} {l : Launch} {C : z_O}
theorem xb198_0 (hC : z_HC l G d z_tb C) : z_SB "QuotaPeers$Message" prog_6_method_3_code 1 false d G l C ((Option.some Jvm.ClassFile.FieldType.boolean)) xp198 0 xB198_0.1 xB198_0.2 := sb_cons (n := 1) hC.1 (tz_ldA _) (so_aload_n 0 (by decide +kernel)) (sb_cons (n := 3) hC.1 (tz_gI _ _) (xg_3_3 w212 (by decide +kernel)) (sb_cons (n := 3) hC.1 (tz_cI _) (so_sipush (128) (128) (by decide +kernel) (by decide +kernel)) (sb_cons (n := 1) hC.1 (tz_ii _) (so_iand (by decide +kernel)) (sb_nil (tz_if _ _ _ _ _) (st_if_eq (off := 7) (by decide) (by decide) (by decide +kernel))))))
theorem xb198_1 (hC : z_HC l G d z_tb C) : z_SB "QuotaPeers$Message" prog_6_method_3_code 1 false d G l C ((Option.some Jvm.ClassFile.FieldType.boolean)) xp198 11 xB198_1.1 xB198_1.2 := sb_cons (n := 1) hC.1 (tz_cI _) (so_iconst (1) (1) (by decide +kernel) (by decide +kernel)) (sb_nil (tz_goto _ _) (st_goto (off := 4) (by decide) (by decide +kernel)))
theorem xb198_2 (hC : z_HC l G d z_tb C) : z_SB "QuotaPeers$Message" prog_6_method_3_code 1 false d G l C ((Option.some Jvm.ClassFile.FieldType.boolean)) xp198 15 xB198_2.1 xB198_2.2 := sb_cons (n := 1) hC.1 (tz_cI _) (so_iconst (0) (0) (by decide +kernel) (by decide +kernel)) (sb_nil (tz_goto _ _) (st_fall (by decide)))
theorem xb198_3 (hC : z_HC l G d z_tb C) : z_SB "QuotaPeers$Message" prog_6_method_3_code 1 false d G l C ((Option.some Jvm.ClassFile.FieldType.boolean)) xp198 16 xB198_3.1 xB198_3.2 := sb_nil (tz_zret) (st_zret rfl (by decide +kernel))
theorem xm198 (hC : z_HC l G d z_tb C) : z_SM "QuotaPeers$Message" prog_6_method_3_code 1 false d G l C ((Option.some Jvm.ClassFile.FieldType.boolean)) xp198 xP198 := by
  intro b
  match b with
  | 0 => exact xb198_0 hC
  | 1 => exact xb198_1 hC
  | 2 => exact xb198_2 hC
  | 3 => exact xb198_3 hC
  | _ + 4 => exact sb_dead
end
/-! QuotaPeers$Message.kindOf(I)I -/
def xB199_0 : List z_Op × z_Tm := ([zo_ldI 0], zt_sw [(257, 4, [false]), (258, 2, [false]), (263, 1, [false]), (264, 1, [false]), (266, 2, [false]), (268, 2, [false]), (269, 1, [false]), (273, 2, [false]), (278, 2, [false]), (279, 5, [false]), (283, 1, [false]), (285, 2, [false]), (293, 1, [false]), (296, 1, [false]), (415, 2, [false]), (416, 2, [false]), (421, 3, [false]), (422, 2, [false]), (431, 5, [false]), (436, 2, [false]), (437, 5, [false]), (443, 5, [false]), (444, 1, [false]), (446, 5, [false]), (448, 2, [false]), (450, 2, [false])] (6, [false]))
def xB199_1 : List z_Op × z_Tm := ([zo_cI (1)], zt_iret)
def xB199_2 : List z_Op × z_Tm := ([zo_cI (2)], zt_iret)
def xB199_3 : List z_Op × z_Tm := ([zo_cI (3)], zt_iret)
def xB199_4 : List z_Op × z_Tm := ([zo_cI (4)], zt_iret)
def xB199_5 : List z_Op × z_Tm := ([zo_cI (5)], zt_iret)
def xB199_6 : List z_Op × z_Tm := ([zo_cI (0)], zt_iret)
def xp199 : Nat → Nat := fun b => ([0, 220, 222, 224, 226, 228, 230] : List Nat).getD b 0
def xP199 : z_M := fun b => ([xB199_0, xB199_1, xB199_2, xB199_3, xB199_4, xB199_5, xB199_6] : List (List z_Op × z_Tm)).getD b z_dead
section
variable {d : Nat} {G : z_G} {l : Launch} {C : z_O}
theorem xb199_0 (hC : z_HC l G d z_tb C) : z_SB "QuotaPeers$Message" prog_6_method_4_code 1 false d G l C ((Option.some Jvm.ClassFile.FieldType.int)) xp199 0 xB199_0.1 xB199_0.2 := sb_cons (n := 1) hC.1 (tz_ldI _) (so_iload_n 0 (by decide +kernel)) (sb_nil (tz_sw _ _) (st_lookup (dflt := 229) (ps := #[(257, 225), (258, 221), (263, 219), (264, 219), (266, 221), (268, 221), (269, 219), (273, 221), (278, 221), (279, 227), (283, 219), (285, 221), (293, 219), (296, 219), (415, 221), (416, 221), (421, 223), (422, 221), (431, 227), (436, 221), (437, 227), (443, 227), (444, 219), (446, 227), (448, 221), (450, 221)]) (len := 219) (by decide +kernel) (by decide) (by decide +kernel) (by decide +kernel)))
theorem xb199_1 (hC : z_HC l G d z_tb C) : z_SB "QuotaPeers$Message" prog_6_method_4_code 1 false d G l C ((Option.some Jvm.ClassFile.FieldType.int)) xp199 220 xB199_1.1 xB199_1.2 := sb_cons (n := 1) hC.1 (tz_cI _) (so_iconst (1) (1) (by decide +kernel) (by decide +kernel)) (sb_nil (tz_iret) (st_iret rfl (by decide +kernel)))
theorem xb199_2 (hC : z_HC l G d z_tb C) : z_SB "QuotaPeers$Message" prog_6_method_4_code 1 false d G l C ((Option.some Jvm.ClassFile.FieldType.int)) xp199 222 xB199_2.1 xB199_2.2 := sb_cons (n := 1) hC.1 (tz_cI _) (so_iconst (2) (2) (by decide +kernel) (by decide +kernel)) (sb_nil (tz_iret) (st_iret rfl (by decide +kernel)))
theorem xb199_3 (hC : z_HC l G d z_tb C) : z_SB "QuotaPeers$Message" prog_6_method_4_code 1 false d G l C ((Option.some Jvm.ClassFile.FieldType.int)) xp199 224 xB199_3.1 xB199_3.2 := sb_cons (n := 1) hC.1 (tz_cI _) (so_iconst (3) (3) (by decide +kernel) (by decide +kernel)) (sb_nil (tz_iret) (st_iret rfl (by decide +kernel)))
theorem xb199_4 (hC : z_HC l G d z_tb C) : z_SB "QuotaPeers$Message" prog_6_method_4_code 1 false d G l C ((Option.some Jvm.ClassFile.FieldType.int)) xp199 226 xB199_4.1 xB199_4.2 := sb_cons (n := 1) hC.1 (tz_cI _) (so_iconst (4) (4) (by decide +kernel) (by decide +kernel)) (sb_nil (tz_iret) (st_iret rfl (by decide +kernel)))
theorem xb199_5 (hC : z_HC l G d z_tb C) : z_SB "QuotaPeers$Message" prog_6_method_4_code 1 false d G l C ((Option.some Jvm.ClassFile.FieldType.int)) xp199 228 xB199_5.1 xB199_5.2 := sb_cons (n := 1) hC.1 (tz_cI _) (so_iconst (5) (5) (by decide +kernel) (by decide +kernel)) (sb_nil (tz_iret) (st_iret rfl (by decide +kernel)))
theorem xb199_6 (hC : z_HC l G d z_tb C) : z_SB "QuotaPeers$Message" prog_6_method_4_code 1 false d G l C ((Option.some Jvm.ClassFile.FieldType.int)) xp199 230 xB199_6.1 xB199_6.2 := sb_cons (n := 1) hC.1 (tz_cI _) (so_iconst (0) (0) (by decide +kernel) (by decide +kernel)) (sb_nil (tz_iret) (st_iret rfl (by decide +kernel)))
theorem xm199 (hC : z_HC l G d z_tb C) : z_SM "QuotaPeers$Message" prog_6_method_4_code 1 false d G l C ((Option.some Jvm.ClassFile.FieldType.int)) xp199 xP199 := by
  intro b
  match b with
  | 0 => exact xb199_0 hC
  | 1 => exact xb199_1 hC
  | 2 => exact xb199_2 hC
  | 3 => exact xb199_3 hC
  | 4 => exact xb199_4 hC
  | 5 => exact xb199_5 hC
  | 6 => exact xb199_6 hC
  | _ + 7 => exact sb_dead
end
/-! QuotaPeers$Message.fits(II)Z -/
def xB200_0 : List z_Op × z_Tm := ([zo_ldI 0], zt_sw [(1, 1, [false, true]), (2, 6, [false, true]), (3, 10, [false, true]), (4, 14, [false, true])] (18, [false, false]))
def xB200_1 : List z_Op × z_Tm := ([zo_ldI 1, zo_cI (1)], zt_icmp (fun x y => x < y) 4 [false, false] 2 [false, true])
def xB200_2 : List z_Op × z_Tm := ([zo_ldI 1, zo_cI (40)], zt_icmp (fun x y => y < x) 4 [false, false] 3 [false, false])
def xB200_3 : List z_Op × z_Tm := ([zo_cI (1)], zt_goto 5 [false, false])
def xB200_4 : List z_Op × z_Tm := ([zo_cI (0)], zt_goto 5 [false, false])
def xB200_5 : List z_Op × z_Tm := ([], zt_zret)
def xB200_6 : List z_Op × z_Tm := ([zo_ldI 1, zo_cI (4)], zt_icmp (fun x y => x = y) 7 [false, false] 8 [false, false])
def xB200_7 : List z_Op × z_Tm := ([zo_cI (1)], zt_goto 9 [false, false])
def xB200_8 : List z_Op × z_Tm := ([zo_cI (0)], zt_goto 9 [false, false])
def xB200_9 : List z_Op × z_Tm := ([], zt_zret)
def xB200_10 : List z_Op × z_Tm := ([zo_ldI 1, zo_cI (8)], zt_icmp (fun x y => x = y) 11 [false, false] 12 [false, false])
def xB200_11 : List z_Op × z_Tm := ([zo_cI (1)], zt_goto 13 [false, false])
def xB200_12 : List z_Op × z_Tm := ([zo_cI (0)], zt_goto 13 [false, false])
def xB200_13 : List z_Op × z_Tm := ([], zt_zret)
def xB200_14 : List z_Op × z_Tm := ([zo_ldI 1, zo_cI (6)], zt_icmp (fun x y => x = y) 15 [false, false] 16 [false, false])
def xB200_15 : List z_Op × z_Tm := ([zo_cI (1)], zt_goto 17 [false, false])
def xB200_16 : List z_Op × z_Tm := ([zo_cI (0)], zt_goto 17 [false, false])
def xB200_17 : List z_Op × z_Tm := ([], zt_zret)
def xB200_18 : List z_Op × z_Tm := ([zo_cI (1)], zt_zret)
def xp200 : Nat → Nat := fun b => ([0, 32, 37, 43, 47, 48, 49, 54, 58, 59, 60, 66, 70, 71, 72, 78, 82, 83, 84] : List Nat).getD b 0
def xP200 : z_M := fun b => ([xB200_0, xB200_1, xB200_2, xB200_3, xB200_4, xB200_5, xB200_6, xB200_7, xB200_8, xB200_9, xB200_10, xB200_11, xB200_12, xB200_13, xB200_14, xB200_15, xB200_16, xB200_17, xB200_18] : List (List z_Op × z_Tm)).getD b z_dead
section
variable {d : Nat} {G : z_G} {l : Launch} {C : z_O}
theorem xb200_0 (hC : z_HC l G d z_tb C) : z_SB "QuotaPeers$Message" prog_6_method_5_code 2 false d G l C ((Option.some Jvm.ClassFile.FieldType.boolean)) xp200 0 xB200_0.1 xB200_0.2 := sb_cons (n := 1) hC.1 (tz_ldI _) (so_iload_n 0 (by decide +kernel)) (sb_nil (tz_sw _ _) (st_table (dflt := 83) (lo := 1) (hi := 4) (offs := #[31, 48, 59, 71]) (len := 31) (by decide +kernel) (by decide) (by decide +kernel)))
theorem xb200_1 (hC : z_HC l G d z_tb C) : z_SB "QuotaPeers$Message" prog_6_method_5_code 2 false d G l C ((Option.some Jvm.ClassFile.FieldType.boolean)) xp200 32 xB200_1.1 xB200_1.2 := sb_cons (n := 1) hC.1 (tz_ldI _) (so_iload_n 1 (by decide +kernel)) (sb_cons (n := 1) hC.1 (tz_cI _) (so_iconst (1) (1) (by decide +kernel) (by decide +kernel)) (sb_nil (tz_icmp _ _ _ _ _) (st_icmp_lt (off := 13) (by decide) (by decide) (by decide +kernel))))
theorem xb200_2 (hC : z_HC l G d z_tb C) : z_SB "QuotaPeers$Message" prog_6_method_5_code 2 false d G l C ((Option.some Jvm.ClassFile.FieldType.boolean)) xp200 37 xB200_2.1 xB200_2.2 := sb_cons (n := 1) hC.1 (tz_ldI _) (so_iload_n 1 (by decide +kernel)) (sb_cons (n := 2) hC.1 (tz_cI _) (so_bipush (40) (40) (by decide +kernel) (by decide +kernel)) (sb_nil (tz_icmp _ _ _ _ _) (st_icmp_gt (off := 7) (by decide) (by decide) (by decide +kernel))))
theorem xb200_3 (hC : z_HC l G d z_tb C) : z_SB "QuotaPeers$Message" prog_6_method_5_code 2 false d G l C ((Option.some Jvm.ClassFile.FieldType.boolean)) xp200 43 xB200_3.1 xB200_3.2 := sb_cons (n := 1) hC.1 (tz_cI _) (so_iconst (1) (1) (by decide +kernel) (by decide +kernel)) (sb_nil (tz_goto _ _) (st_goto (off := 4) (by decide) (by decide +kernel)))
theorem xb200_4 (hC : z_HC l G d z_tb C) : z_SB "QuotaPeers$Message" prog_6_method_5_code 2 false d G l C ((Option.some Jvm.ClassFile.FieldType.boolean)) xp200 47 xB200_4.1 xB200_4.2 := sb_cons (n := 1) hC.1 (tz_cI _) (so_iconst (0) (0) (by decide +kernel) (by decide +kernel)) (sb_nil (tz_goto _ _) (st_fall (by decide)))
theorem xb200_5 (hC : z_HC l G d z_tb C) : z_SB "QuotaPeers$Message" prog_6_method_5_code 2 false d G l C ((Option.some Jvm.ClassFile.FieldType.boolean)) xp200 48 xB200_5.1 xB200_5.2 := sb_nil (tz_zret) (st_zret rfl (by decide +kernel))
theorem xb200_6 (hC : z_HC l G d z_tb C) : z_SB "QuotaPeers$Message" prog_6_method_5_code 2 false d G l C ((Option.some Jvm.ClassFile.FieldType.boolean)) xp200 49 xB200_6.1 xB200_6.2 := sb_cons (n := 1) hC.1 (tz_ldI _) (so_iload_n 1 (by decide +kernel)) (sb_cons (n := 1) hC.1 (tz_cI _) (so_iconst (4) (4) (by decide +kernel) (by decide +kernel)) (sb_nil (tz_icmp _ _ _ _ _) (st_icmp_ne (off := 7) (by decide) (by decide) (by decide +kernel))))
theorem xb200_7 (hC : z_HC l G d z_tb C) : z_SB "QuotaPeers$Message" prog_6_method_5_code 2 false d G l C ((Option.some Jvm.ClassFile.FieldType.boolean)) xp200 54 xB200_7.1 xB200_7.2 := sb_cons (n := 1) hC.1 (tz_cI _) (so_iconst (1) (1) (by decide +kernel) (by decide +kernel)) (sb_nil (tz_goto _ _) (st_goto (off := 4) (by decide) (by decide +kernel)))
theorem xb200_8 (hC : z_HC l G d z_tb C) : z_SB "QuotaPeers$Message" prog_6_method_5_code 2 false d G l C ((Option.some Jvm.ClassFile.FieldType.boolean)) xp200 58 xB200_8.1 xB200_8.2 := sb_cons (n := 1) hC.1 (tz_cI _) (so_iconst (0) (0) (by decide +kernel) (by decide +kernel)) (sb_nil (tz_goto _ _) (st_fall (by decide)))
theorem xb200_9 (hC : z_HC l G d z_tb C) : z_SB "QuotaPeers$Message" prog_6_method_5_code 2 false d G l C ((Option.some Jvm.ClassFile.FieldType.boolean)) xp200 59 xB200_9.1 xB200_9.2 := sb_nil (tz_zret) (st_zret rfl (by decide +kernel))
theorem xb200_10 (hC : z_HC l G d z_tb C) : z_SB "QuotaPeers$Message" prog_6_method_5_code 2 false d G l C ((Option.some Jvm.ClassFile.FieldType.boolean)) xp200 60 xB200_10.1 xB200_10.2 := sb_cons (n := 1) hC.1 (tz_ldI _) (so_iload_n 1 (by decide +kernel)) (sb_cons (n := 2) hC.1 (tz_cI _) (so_bipush (8) (8) (by decide +kernel) (by decide +kernel)) (sb_nil (tz_icmp _ _ _ _ _) (st_icmp_ne (off := 7) (by decide) (by decide) (by decide +kernel))))
theorem xb200_11 (hC : z_HC l G d z_tb C) : z_SB "QuotaPeers$Message" prog_6_method_5_code 2 false d G l C ((Option.some Jvm.ClassFile.FieldType.boolean)) xp200 66 xB200_11.1 xB200_11.2 := sb_cons (n := 1) hC.1 (tz_cI _) (so_iconst (1) (1) (by decide +kernel) (by decide +kernel)) (sb_nil (tz_goto _ _) (st_goto (off := 4) (by decide) (by decide +kernel)))
theorem xb200_12 (hC : z_HC l G d z_tb C) : z_SB "QuotaPeers$Message" prog_6_method_5_code 2 false d G l C ((Option.some Jvm.ClassFile.FieldType.boolean)) xp200 70 xB200_12.1 xB200_12.2 := sb_cons (n := 1) hC.1 (tz_cI _) (so_iconst (0) (0) (by decide +kernel) (by decide +kernel)) (sb_nil (tz_goto _ _) (st_fall (by decide)))
theorem xb200_13 (hC : z_HC l G d z_tb C) : z_SB "QuotaPeers$Message" prog_6_method_5_code 2 false d G l C ((Option.some Jvm.ClassFile.FieldType.boolean)) xp200 71 xB200_13.1 xB200_13.2 := sb_nil (tz_zret) (st_zret rfl (by decide +kernel))
theorem xb200_14 (hC : z_HC l G d z_tb C) : z_SB "QuotaPeers$Message" prog_6_method_5_code 2 false d G l C ((Option.some Jvm.ClassFile.FieldType.boolean)) xp200 72 xB200_14.1 xB200_14.2 := sb_cons (n := 1) hC.1 (tz_ldI _) (so_iload_n 1 (by decide +kernel)) (sb_cons (n := 2) hC.1 (tz_cI _) (so_bipush (6) (6) (by decide +kernel) (by decide +kernel)) (sb_nil (tz_icmp _ _ _ _ _) (st_icmp_ne (off := 7) (by decide) (by decide) (by decide +kernel))))
theorem xb200_15 (hC : z_HC l G d z_tb C) : z_SB "QuotaPeers$Message" prog_6_method_5_code 2 false d G l C ((Option.some Jvm.ClassFile.FieldType.boolean)) xp200 78 xB200_15.1 xB200_15.2 := sb_cons (n := 1) hC.1 (tz_cI _) (so_iconst (1) (1) (by decide +kernel) (by decide +kernel)) (sb_nil (tz_goto _ _) (st_goto (off := 4) (by decide) (by decide +kernel)))
theorem xb200_16 (hC : z_HC l G d z_tb C) : z_SB "QuotaPeers$Message" prog_6_method_5_code 2 false d G l C ((Option.some Jvm.ClassFile.FieldType.boolean)) xp200 82 xB200_16.1 xB200_16.2 := sb_cons (n := 1) hC.1 (tz_cI _) (so_iconst (0) (0) (by decide +kernel) (by decide +kernel)) (sb_nil (tz_goto _ _) (st_fall (by decide)))
theorem xb200_17 (hC : z_HC l G d z_tb C) : z_SB "QuotaPeers$Message" prog_6_method_5_code 2 false d G l C ((Option.some Jvm.ClassFile.FieldType.boolean)) xp200 83 xB200_17.1 xB200_17.2 := sb_nil (tz_zret) (st_zret rfl (by decide +kernel))
theorem xb200_18 (hC : z_HC l G d z_tb C) : z_SB "QuotaPeers$Message" prog_6_method_5_code 2 false d G l C ((Option.some Jvm.ClassFile.FieldType.boolean)) xp200 84 xB200_18.1 xB200_18.2 := sb_cons (n := 1) hC.1 (tz_cI _) (so_iconst (1) (1) (by decide +kernel) (by decide +kernel)) (sb_nil (tz_zret) (st_zret rfl (by decide +kernel)))
theorem xm200 (hC : z_HC l G d z_tb C) : z_SM "QuotaPeers$Message" prog_6_method_5_code 2 false d G l C ((Option.some Jvm.ClassFile.FieldType.boolean)) xp200 xP200 := by
  intro b
  match b with
  | 0 => exact xb200_0 hC
  | 1 => exact xb200_1 hC
  | 2 => exact xb200_2 hC
  | 3 => exact xb200_3 hC
  | 4 => exact xb200_4 hC
  | 5 => exact xb200_5 hC
  | 6 => exact xb200_6 hC
  | 7 => exact xb200_7 hC
  | 8 => exact xb200_8 hC
  | 9 => exact xb200_9 hC
  | 10 => exact xb200_10 hC
  | 11 => exact xb200_11 hC
  | 12 => exact xb200_12 hC
  | 13 => exact xb200_13 hC
  | 14 => exact xb200_14 hC
  | 15 => exact xb200_15 hC
  | 16 => exact xb200_16 hC
  | 17 => exact xb200_17 hC
  | 18 => exact xb200_18 hC
  | _ + 19 => exact sb_dead
end
/-! QuotaPeers$Message.isWrong(II)Z -/
def xB201_0 : List z_Op × z_Tm := ([zo_ldA 0, zo_ldI 1, zo_pI 3 12, zo_ldA 0, zo_ldI 2, zo_pI 3 13, zo_cI (1)], zt_zret)
def xp201 : Nat → Nat := fun b => ([0] : List Nat).getD b 0
def xP201 : z_M := fun b => ([xB201_0] : List (List z_Op × z_Tm)).getD b z_dead
section
variable {d : Nat} {G : z_G} {l : Launch} {C : z_O}
theorem xb201_0 (hC : z_HC l G d z_tb C) : z_SB "QuotaPeers$Message" prog_6_method_6_code 3 false d G l C ((Option.some Jvm.ClassFile.FieldType.boolean)) xp201 0 xB201_0.1 xB201_0.2 := sb_cons (n := 1) hC.1 (tz_ldA _) (so_aload_n 0 (by decide +kernel)) (sb_cons (n := 1) hC.1 (tz_ldI _) (so_iload_n 1 (by decide +kernel)) (sb_cons (n := 3) hC.1 (tz_pI _ _) (xp_3_12 w230 (by decide +kernel)) (sb_cons (n := 1) hC.1 (tz_ldA _) (so_aload_n 0 (by decide +kernel)) (sb_cons (n := 1) hC.1 (tz_ldI _) (so_iload_n 2 (by decide +kernel)) (sb_cons (n := 3) hC.1 (tz_pI _ _) (xp_3_13 w232 (by decide +kernel)) (sb_cons (n := 1) hC.1 (tz_cI _) (so_iconst (1) (1) (by decide +kernel) (by decide +kernel)) (sb_nil (tz_zret) (st_zret rfl (by decide +kernel)))))))))
theorem xm201 (hC : z_HC l G d z_tb C) : z_SM "QuotaPeers$Message" prog_6_method_6_code 3 false d G l C ((Option.some Jvm.ClassFile.FieldType.boolean)) xp201 xP201 := by
  intro b
  match b with
  | 0 => exact xb201_0 hC
  | _ + 1 => exact sb_dead
end
