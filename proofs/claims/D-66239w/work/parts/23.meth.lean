/-! 23.meth.lean.txt (printed by wip/gen/gen13.py): methods 202 .. 237 -/
set_option maxRecDepth 100000
/-! QuotaPeers$Message.walk(LQuotaPeers$Message;III)Z -/
def xB202_0 : List z_Op × z_Tm := ([zo_ldI 1, zo_stI 4], zt_goto 1 [true, false, true, true, true, false, false, false, false, false])
def xB202_1 : List z_Op × z_Tm := ([zo_ldI 4, zo_ldI 2], zt_icmp (fun x y => y ≤ x) 30 [false, false, false, false, false, false, false, false, false, false] 2 [true, false, true, true, true, false, false, false, false, false])
def xB202_2 : List z_Op × z_Tm := ([zo_ldI 2, zo_ldI 4, zo_ii ((· - ·)), zo_cI (8)], zt_icmp (fun x y => y ≤ x) 4 [true, false, true, true, true, false, false, false, false, false] 3 [true, false, false, false, false, false, false, false, false, false])
def xB202_3 : List z_Op × z_Tm := ([zo_ldA 0, zo_cI (5014), zo_cI (0), zo_crV 201 2 3], zt_zret)
def xB202_4 : List z_Op × z_Tm := ([zo_ldA 0, zo_ldI 4, zo_cI (4), zo_crV 197 2 3, zo_l2i, zo_stI 5, zo_ldA 0, zo_gR 3 1, zo_ldI 4, zo_cI (4), zo_ii ((· + ·)), zo_aldI 17, zo_cI (255), zo_ii ((· &&& ·)), zo_stI 6, zo_ldA 0, zo_ldI 4, zo_cI (5), zo_ii ((· + ·)), zo_cI (3), zo_crV 197 2 3, zo_l2i, zo_stI 7, zo_ldI 6, zo_cI (128), zo_ii ((· &&& ·))], zt_if (fun x => x = 0) 6 [true, false, true, true, true, true, true, true, false, false] 5 [true, false, true, true, true, true, true, true, false, false])
def xB202_5 : List z_Op × z_Tm := ([zo_cI (12)], zt_goto 7 [true, false, true, true, true, true, true, true, false, false])
def xB202_6 : List z_Op × z_Tm := ([zo_cI (8)], zt_goto 7 [true, false, true, true, true, true, true, true, false, false])
def xB202_7 : List z_Op × z_Tm := ([zo_stI 8, zo_ldI 7, zo_ldI 8], zt_icmp (fun x y => x < y) 9 [true, false, false, false, false, true, false, false, false, false] 8 [true, false, true, true, true, true, true, true, true, false])
def xB202_8 : List z_Op × z_Tm := ([zo_ldI 7, zo_ldI 2, zo_ldI 4, zo_ii ((· - ·))], zt_icmp (fun x y => x ≤ y) 10 [true, false, true, true, true, true, true, true, true, false] 9 [true, false, false, false, false, true, false, false, false, false])
def xB202_9 : List z_Op × z_Tm := ([zo_ldA 0, zo_cI (5014), zo_ldI 5, zo_crV 201 2 3], zt_zret)
def xB202_10 : List z_Op × z_Tm := ([zo_ldI 6, zo_cI (31), zo_ii ((· &&& ·))], zt_if (fun x => x = 0) 12 [true, false, true, true, true, true, true, true, true, false] 11 [true, false, false, false, false, true, false, false, false, false])
def xB202_11 : List z_Op × z_Tm := ([zo_ldA 0, zo_cI (3009), zo_ldI 5, zo_crV 201 2 3], zt_zret)
def xB202_12 : List z_Op × z_Tm := ([zo_ldI 8, zo_cI (12)], zt_icmp (fun x y => x = y) 13 [true, false, true, true, true, true, true, true, true, false] 14 [true, false, true, true, true, true, true, true, true, false])
def xB202_13 : List z_Op × z_Tm := ([zo_cI (0)], zt_goto 15 [true, false, true, true, true, true, true, true, true, false])
def xB202_14 : List z_Op × z_Tm := ([zo_ldI 5, zo_crS 199 1], zt_goto 15 [true, false, true, true, true, true, true, true, true, false])
def xB202_15 : List z_Op × z_Tm := ([zo_stI 9, zo_ldI 9], zt_if (fun x => x = 0) 16 [true, false, true, true, true, true, true, true, true, true] 18 [true, false, true, true, true, true, false, true, true, true])
def xB202_16 : List z_Op × z_Tm := ([zo_ldI 6, zo_cI (64), zo_ii ((· &&& ·))], zt_if (fun x => x = 0) 18 [true, false, true, true, true, true, false, true, true, true] 17 [true, false, false, false, false, true, false, false, false, false])
def xB202_17 : List z_Op × z_Tm := ([zo_ldA 0, zo_cI (5001), zo_ldI 5, zo_crV 201 2 3], zt_zret)
def xB202_18 : List z_Op × z_Tm := ([zo_ldI 9], zt_if (fun x => x = 0) 20 [true, false, true, true, true, true, false, true, true, true] 19 [true, false, true, true, true, true, false, true, true, true])
def xB202_19 : List z_Op × z_Tm := ([zo_ldI 9, zo_ldI 7, zo_ldI 8, zo_ii ((· - ·)), zo_crS 200 2], zt_if (fun x => x = 0) 22 [true, false, false, false, false, true, false, false, false, false] 20 [true, false, true, true, true, true, false, true, true, true])
def xB202_20 : List z_Op × z_Tm := ([zo_ldI 9, zo_cI (5)], zt_icmp (fun x y => x = y) 21 [true, false, true, true, true, true, false, true, true, true] 23 [true, false, true, true, true, true, false, true, true, true])
def xB202_21 : List z_Op × z_Tm := ([zo_ldI 3, zo_cI (3)], zt_icmp (fun x y => x = y) 22 [true, false, false, false, false, true, false, false, false, false] 23 [true, false, true, true, true, true, false, true, true, true])
def xB202_22 : List z_Op × z_Tm := ([zo_ldA 0, zo_cI (5014), zo_ldI 5, zo_crV 201 2 3], zt_zret)
def xB202_23 : List z_Op × z_Tm := ([zo_ldI 9, zo_cI (5)], zt_icmp (fun x y => x = y) 24 [true, false, true, true, true, true, false, true, true, true] 26 [true, false, true, true, true, true, false, true, true, true])
def xB202_24 : List z_Op × z_Tm := ([zo_ldA 0, zo_ldI 4, zo_ldI 8, zo_ii ((· + ·)), zo_ldI 4, zo_ldI 7, zo_ii ((· + ·)), zo_ldI 3, zo_cI (1), zo_ii ((· + ·)), zo_crS 202 4], zt_if (fun x => x = 0) 26 [true, false, true, true, true, true, false, true, true, true] 25 [false, false, false, false, false, false, false, false, false, false])
def xB202_25 : List z_Op × z_Tm := ([zo_cI (1)], zt_zret)
def xB202_26 : List z_Op × z_Tm := ([zo_ldI 9], zt_if (fun x => x = 0) 29 [true, false, true, true, true, false, false, true, false, false] 27 [true, false, true, true, true, true, false, true, true, false])
def xB202_27 : List z_Op × z_Tm := ([zo_ldI 3], zt_if (fun x => x = 0) 28 [true, false, true, true, true, true, false, true, true, false] 29 [true, false, true, true, true, false, false, true, false, false])
def xB202_28 : List z_Op × z_Tm := ([zo_ldA 0, zo_ldI 5, zo_ldI 4, zo_ldI 8, zo_ii ((· + ·)), zo_ldI 7, zo_ldI 8, zo_ii ((· - ·)), zo_cvV 203 3 3], zt_goto 29 [true, false, true, true, true, false, false, true, false, false])
def xB202_29 : List z_Op × z_Tm := ([zo_ldI 4, zo_ldI 7, zo_cI (3), zo_ii ((· + ·)), zo_cI (4), zo_div, zo_cI (4), zo_ii ((· * ·)), zo_ii ((· + ·)), zo_stI 4], zt_goto 1 [true, false, true, true, true, false, false, false, false, false])
def xB202_30 : List z_Op × z_Tm := ([zo_cI (0)], zt_zret)
def xp202 : Nat → Nat := fun b => ([0, 3, 9, 18, 27, 73, 78, 80, 89, 98, 108, 116, 126, 133, 137, 142, 149, 157, 167, 172, 185, 191, 196, 206, 212, 232, 234, 239, 243, 259, 275] : List Nat).getD b 0
def xP202 : z_M := fun b => ([xB202_0, xB202_1, xB202_2, xB202_3, xB202_4, xB202_5, xB202_6, xB202_7, xB202_8, xB202_9, xB202_10, xB202_11, xB202_12, xB202_13, xB202_14, xB202_15, xB202_16, xB202_17, xB202_18, xB202_19, xB202_20, xB202_21, xB202_22, xB202_23, xB202_24, xB202_25, xB202_26, xB202_27, xB202_28, xB202_29, xB202_30] : List (List z_Op × z_Tm)).getD b z_dead
section
variable {d : Nat} {G : z_G} {l : Launch} {C : z_O}
theorem xb202_0 (hC : z_HC l G d z_tb C) : z_SB "QuotaPeers$Message" prog_6_method_7_code 10 false d G l C ((Option.some Jvm.ClassFile.FieldType.boolean)) xp202 0 xB202_0.1 xB202_0.2 := sb_cons (n := 1) hC.1 (tz_ldI _) (so_iload_n 1 (by decide +kernel)) (sb_cons (n := 2) hC.1 (tz_stI _) (so_istore 4 (by decide) (by decide +kernel)) (sb_nil (tz_goto _ _) (st_fall (by decide))))
theorem xb202_1 (hC : z_HC l G d z_tb C) : z_SB "QuotaPeers$Message" prog_6_method_7_code 10 false d G l C ((Option.some Jvm.ClassFile.FieldType.boolean)) xp202 3 xB202_1.1 xB202_1.2 := sb_cons (n := 2) hC.1 (tz_ldI _) (so_iload 4 (by decide +kernel)) (sb_cons (n := 1) hC.1 (tz_ldI _) (so_iload_n 2 (by decide +kernel)) (sb_nil (tz_icmp _ _ _ _ _) (st_icmp_ge (off := 269) (by decide) (by decide) (by decide +kernel))))
theorem xb202_2 (hC : z_HC l G d z_tb C) : z_SB "QuotaPeers$Message" prog_6_method_7_code 10 false d G l C ((Option.some Jvm.ClassFile.FieldType.boolean)) xp202 9 xB202_2.1 xB202_2.2 := sb_cons (n := 1) hC.1 (tz_ldI _) (so_iload_n 2 (by decide +kernel)) (sb_cons (n := 2) hC.1 (tz_ldI _) (so_iload 4 (by decide +kernel)) (sb_cons (n := 1) hC.1 (tz_ii _) (so_isub (by decide +kernel)) (sb_cons (n := 2) hC.1 (tz_cI _) (so_bipush (8) (8) (by decide +kernel) (by decide +kernel)) (sb_nil (tz_icmp _ _ _ _ _) (st_icmp_ge (off := 12) (by decide) (by decide) (by decide +kernel))))))
theorem xb202_3 (hC : z_HC l G d z_tb C) : z_SB "QuotaPeers$Message" prog_6_method_7_code 10 false d G l C ((Option.some Jvm.ClassFile.FieldType.boolean)) xp202 18 xB202_3.1 xB202_3.2 := sb_cons (n := 1) hC.1 (tz_ldA _) (so_aload_n 0 (by decide +kernel)) (sb_cons (n := 3) hC.1 (tz_cI _) (so_sipush (5014) (5014) (by decide +kernel) (by decide +kernel)) (sb_cons (n := 1) hC.1 (tz_cI _) (so_iconst (0) (0) (by decide +kernel) (by decide +kernel)) (sb_cons (n := 3) hC.1 (tz_crV _ _ _) (xc_201 hC w815 (by decide +kernel)) (sb_nil (tz_zret) (st_zret rfl (by decide +kernel))))))
theorem xb202_4 (hC : z_HC l G d z_tb C) : z_SB "QuotaPeers$Message" prog_6_method_7_code 10 false d G l C ((Option.some Jvm.ClassFile.FieldType.boolean)) xp202 27 xB202_4.1 xB202_4.2 := sb_cons (n := 1) hC.1 (tz_ldA _) (so_aload_n 0 (by decide +kernel)) (sb_cons (n := 2) hC.1 (tz_ldI _) (so_iload 4 (by decide +kernel)) (sb_cons (n := 1) hC.1 (tz_cI _) (so_iconst (4) (4) (by decide +kernel) (by decide +kernel)) (sb_cons (n := 3) hC.1 (tz_crV _ _ _) (xc_197 hC w797 (by decide +kernel)) (sb_cons (n := 1) hC.1 (tz_l2i) (so_l2i (by decide +kernel)) (sb_cons (n := 2) hC.1 (tz_stI _) (so_istore 5 (by decide) (by decide +kernel)) (sb_cons (n := 1) hC.1 (tz_ldA _) (so_aload_n 0 (by decide +kernel)) (sb_cons (n := 3) hC.1 (tz_gR _ _) (xg_3_1 w209 (by decide +kernel)) (sb_cons (n := 2) hC.1 (tz_ldI _) (so_iload 4 (by decide +kernel)) (sb_cons (n := 1) hC.1 (tz_cI _) (so_iconst (4) (4) (by decide +kernel) (by decide +kernel)) (sb_cons (n := 1) hC.1 (tz_ii _) (so_iadd (by decide +kernel)) (sb_cons (n := 1) hC.1 (tz_aldI _) (so_baload (by decide +kernel)) (sb_cons (n := 3) hC.1 (tz_cI _) (so_sipush (255) (255) (by decide +kernel) (by decide +kernel)) (sb_cons (n := 1) hC.1 (tz_ii _) (so_iand (by decide +kernel)) (sb_cons (n := 2) hC.1 (tz_stI _) (so_istore 6 (by decide) (by decide +kernel)) (sb_cons (n := 1) hC.1 (tz_ldA _) (so_aload_n 0 (by decide +kernel)) (sb_cons (n := 2) hC.1 (tz_ldI _) (so_iload 4 (by decide +kernel)) (sb_cons (n := 1) hC.1 (tz_cI _) (so_iconst (5) (5) (by decide +kernel) (by decide +kernel)) (sb_cons (n := 1) hC.1 (tz_ii _) (so_iadd (by decide +kernel)) (sb_cons (n := 1) hC.1 (tz_cI _) (so_iconst (3) (3) (by decide +kernel) (by decide +kernel)) (sb_cons (n := 3) hC.1 (tz_crV _ _ _) (xc_197 hC w797 (by decide +kernel)) (sb_cons (n := 1) hC.1 (tz_l2i) (so_l2i (by decide +kernel)) (sb_cons (n := 2) hC.1 (tz_stI _) (so_istore 7 (by decide) (by decide +kernel)) (sb_cons (n := 2) hC.1 (tz_ldI _) (so_iload 6 (by decide +kernel)) (sb_cons (n := 3) hC.1 (tz_cI _) (so_sipush (128) (128) (by decide +kernel) (by decide +kernel)) (sb_cons (n := 1) hC.1 (tz_ii _) (so_iand (by decide +kernel)) (sb_nil (tz_if _ _ _ _ _) (st_if_eq (off := 8) (by decide) (by decide) (by decide +kernel))))))))))))))))))))))))))))
theorem xb202_5 (hC : z_HC l G d z_tb C) : z_SB "QuotaPeers$Message" prog_6_method_7_code 10 false d G l C ((Option.some Jvm.ClassFile.FieldType.boolean)) xp202 73 xB202_5.1 xB202_5.2 := sb_cons (n := 2) hC.1 (tz_cI _) (so_bipush (12) (12) (by decide +kernel) (by decide +kernel)) (sb_nil (tz_goto _ _) (st_goto (off := 5) (by decide) (by decide +kernel)))
theorem xb202_6 (hC : z_HC l G d z_tb C) : z_SB "QuotaPeers$Message" prog_6_method_7_code 10 false d G l C ((Option.some Jvm.ClassFile.FieldType.boolean)) xp202 78 xB202_6.1 xB202_6.2 := sb_cons (n := 2) hC.1 (tz_cI _) (so_bipush (8) (8) (by decide +kernel) (by decide +kernel)) (sb_nil (tz_goto _ _) (st_fall (by decide)))
theorem xb202_7 (hC : z_HC l G d z_tb C) : z_SB "QuotaPeers$Message" prog_6_method_7_code 10 false d G l C ((Option.some Jvm.ClassFile.FieldType.boolean)) xp202 80 xB202_7.1 xB202_7.2 := sb_cons (n := 2) hC.1 (tz_stI _) (so_istore 8 (by decide) (by decide +kernel)) (sb_cons (n := 2) hC.1 (tz_ldI _) (so_iload 7 (by decide +kernel)) (sb_cons (n := 2) hC.1 (tz_ldI _) (so_iload 8 (by decide +kernel)) (sb_nil (tz_icmp _ _ _ _ _) (st_icmp_lt (off := 12) (by decide) (by decide) (by decide +kernel)))))
theorem xb202_8 (hC : z_HC l G d z_tb C) : z_SB "QuotaPeers$Message" prog_6_method_7_code 10 false d G l C ((Option.some Jvm.ClassFile.FieldType.boolean)) xp202 89 xB202_8.1 xB202_8.2 := sb_cons (n := 2) hC.1 (tz_ldI _) (so_iload 7 (by decide +kernel)) (sb_cons (n := 1) hC.1 (tz_ldI _) (so_iload_n 2 (by decide +kernel)) (sb_cons (n := 2) hC.1 (tz_ldI _) (so_iload 4 (by decide +kernel)) (sb_cons (n := 1) hC.1 (tz_ii _) (so_isub (by decide +kernel)) (sb_nil (tz_icmp _ _ _ _ _) (st_icmp_le (off := 13) (by decide) (by decide) (by decide +kernel))))))
theorem xb202_9 (hC : z_HC l G d z_tb C) : z_SB "QuotaPeers$Message" prog_6_method_7_code 10 false d G l C ((Option.some Jvm.ClassFile.FieldType.boolean)) xp202 98 xB202_9.1 xB202_9.2 := sb_cons (n := 1) hC.1 (tz_ldA _) (so_aload_n 0 (by decide +kernel)) (sb_cons (n := 3) hC.1 (tz_cI _) (so_sipush (5014) (5014) (by decide +kernel) (by decide +kernel)) (sb_cons (n := 2) hC.1 (tz_ldI _) (so_iload 5 (by decide +kernel)) (sb_cons (n := 3) hC.1 (tz_crV _ _ _) (xc_201 hC w815 (by decide +kernel)) (sb_nil (tz_zret) (st_zret rfl (by decide +kernel))))))
theorem xb202_10 (hC : z_HC l G d z_tb C) : z_SB "QuotaPeers$Message" prog_6_method_7_code 10 false d G l C ((Option.some Jvm.ClassFile.FieldType.boolean)) xp202 108 xB202_10.1 xB202_10.2 := sb_cons (n := 2) hC.1 (tz_ldI _) (so_iload 6 (by decide +kernel)) (sb_cons (n := 2) hC.1 (tz_cI _) (so_bipush (31) (31) (by decide +kernel) (by decide +kernel)) (sb_cons (n := 1) hC.1 (tz_ii _) (so_iand (by decide +kernel)) (sb_nil (tz_if _ _ _ _ _) (st_if_eq (off := 13) (by decide) (by decide) (by decide +kernel)))))
theorem xb202_11 (hC : z_HC l G d z_tb C) : z_SB "QuotaPeers$Message" prog_6_method_7_code 10 false d G l C ((Option.some Jvm.ClassFile.FieldType.boolean)) xp202 116 xB202_11.1 xB202_11.2 := sb_cons (n := 1) hC.1 (tz_ldA _) (so_aload_n 0 (by decide +kernel)) (sb_cons (n := 3) hC.1 (tz_cI _) (so_sipush (3009) (3009) (by decide +kernel) (by decide +kernel)) (sb_cons (n := 2) hC.1 (tz_ldI _) (so_iload 5 (by decide +kernel)) (sb_cons (n := 3) hC.1 (tz_crV _ _ _) (xc_201 hC w815 (by decide +kernel)) (sb_nil (tz_zret) (st_zret rfl (by decide +kernel))))))
theorem xb202_12 (hC : z_HC l G d z_tb C) : z_SB "QuotaPeers$Message" prog_6_method_7_code 10 false d G l C ((Option.some Jvm.ClassFile.FieldType.boolean)) xp202 126 xB202_12.1 xB202_12.2 := sb_cons (n := 2) hC.1 (tz_ldI _) (so_iload 8 (by decide +kernel)) (sb_cons (n := 2) hC.1 (tz_cI _) (so_bipush (12) (12) (by decide +kernel) (by decide +kernel)) (sb_nil (tz_icmp _ _ _ _ _) (st_icmp_ne (off := 7) (by decide) (by decide) (by decide +kernel))))
theorem xb202_13 (hC : z_HC l G d z_tb C) : z_SB "QuotaPeers$Message" prog_6_method_7_code 10 false d G l C ((Option.some Jvm.ClassFile.FieldType.boolean)) xp202 133 xB202_13.1 xB202_13.2 := sb_cons (n := 1) hC.1 (tz_cI _) (so_iconst (0) (0) (by decide +kernel) (by decide +kernel)) (sb_nil (tz_goto _ _) (st_goto (off := 8) (by decide) (by decide +kernel)))
theorem xb202_14 (hC : z_HC l G d z_tb C) : z_SB "QuotaPeers$Message" prog_6_method_7_code 10 false d G l C ((Option.some Jvm.ClassFile.FieldType.boolean)) xp202 137 xB202_14.1 xB202_14.2 := sb_cons (n := 2) hC.1 (tz_ldI _) (so_iload 5 (by decide +kernel)) (sb_cons (n := 3) hC.1 (tz_crS _ _) (xc_199 hC w822 (by decide +kernel)) (sb_nil (tz_goto _ _) (st_fall (by decide))))
theorem xb202_15 (hC : z_HC l G d z_tb C) : z_SB "QuotaPeers$Message" prog_6_method_7_code 10 false d G l C ((Option.some Jvm.ClassFile.FieldType.boolean)) xp202 142 xB202_15.1 xB202_15.2 := sb_cons (n := 2) hC.1 (tz_stI _) (so_istore 9 (by decide) (by decide +kernel)) (sb_cons (n := 2) hC.1 (tz_ldI _) (so_iload 9 (by decide +kernel)) (sb_nil (tz_if _ _ _ _ _) (st_if_ne (off := 21) (by decide) (by decide) (by decide +kernel))))
theorem xb202_16 (hC : z_HC l G d z_tb C) : z_SB "QuotaPeers$Message" prog_6_method_7_code 10 false d G l C ((Option.some Jvm.ClassFile.FieldType.boolean)) xp202 149 xB202_16.1 xB202_16.2 := sb_cons (n := 2) hC.1 (tz_ldI _) (so_iload 6 (by decide +kernel)) (sb_cons (n := 2) hC.1 (tz_cI _) (so_bipush (64) (64) (by decide +kernel) (by decide +kernel)) (sb_cons (n := 1) hC.1 (tz_ii _) (so_iand (by decide +kernel)) (sb_nil (tz_if _ _ _ _ _) (st_if_eq (off := 13) (by decide) (by decide) (by decide +kernel)))))
theorem xb202_17 (hC : z_HC l G d z_tb C) : z_SB "QuotaPeers$Message" prog_6_method_7_code 10 false d G l C ((Option.some Jvm.ClassFile.FieldType.boolean)) xp202 157 xB202_17.1 xB202_17.2 := sb_cons (n := 1) hC.1 (tz_ldA _) (so_aload_n 0 (by decide +kernel)) (sb_cons (n := 3) hC.1 (tz_cI _) (so_sipush (5001) (5001) (by decide +kernel) (by decide +kernel)) (sb_cons (n := 2) hC.1 (tz_ldI _) (so_iload 5 (by decide +kernel)) (sb_cons (n := 3) hC.1 (tz_crV _ _ _) (xc_201 hC w815 (by decide +kernel)) (sb_nil (tz_zret) (st_zret rfl (by decide +kernel))))))
theorem xb202_18 (hC : z_HC l G d z_tb C) : z_SB "QuotaPeers$Message" prog_6_method_7_code 10 false d G l C ((Option.some Jvm.ClassFile.FieldType.boolean)) xp202 167 xB202_18.1 xB202_18.2 := sb_cons (n := 2) hC.1 (tz_ldI _) (so_iload 9 (by decide +kernel)) (sb_nil (tz_if _ _ _ _ _) (st_if_eq (off := 16) (by decide) (by decide) (by decide +kernel)))
theorem xb202_19 (hC : z_HC l G d z_tb C) : z_SB "QuotaPeers$Message" prog_6_method_7_code 10 false d G l C ((Option.some Jvm.ClassFile.FieldType.boolean)) xp202 172 xB202_19.1 xB202_19.2 := sb_cons (n := 2) hC.1 (tz_ldI _) (so_iload 9 (by decide +kernel)) (sb_cons (n := 2) hC.1 (tz_ldI _) (so_iload 7 (by decide +kernel)) (sb_cons (n := 2) hC.1 (tz_ldI _) (so_iload 8 (by decide +kernel)) (sb_cons (n := 1) hC.1 (tz_ii _) (so_isub (by decide +kernel)) (sb_cons (n := 3) hC.1 (tz_crS _ _) (xc_200 hC w825 (by decide +kernel)) (sb_nil (tz_if _ _ _ _ _) (st_if_eq (off := 14) (by decide) (by decide) (by decide +kernel)))))))
theorem xb202_20 (hC : z_HC l G d z_tb C) : z_SB "QuotaPeers$Message" prog_6_method_7_code 10 false d G l C ((Option.some Jvm.ClassFile.FieldType.boolean)) xp202 185 xB202_20.1 xB202_20.2 := sb_cons (n := 2) hC.1 (tz_ldI _) (so_iload 9 (by decide +kernel)) (sb_cons (n := 1) hC.1 (tz_cI _) (so_iconst (5) (5) (by decide +kernel) (by decide +kernel)) (sb_nil (tz_icmp _ _ _ _ _) (st_icmp_ne (off := 18) (by decide) (by decide) (by decide +kernel))))
theorem xb202_21 (hC : z_HC l G d z_tb C) : z_SB "QuotaPeers$Message" prog_6_method_7_code 10 false d G l C ((Option.some Jvm.ClassFile.FieldType.boolean)) xp202 191 xB202_21.1 xB202_21.2 := sb_cons (n := 1) hC.1 (tz_ldI _) (so_iload_n 3 (by decide +kernel)) (sb_cons (n := 1) hC.1 (tz_cI _) (so_iconst (3) (3) (by decide +kernel) (by decide +kernel)) (sb_nil (tz_icmp _ _ _ _ _) (st_icmp_ne (off := 13) (by decide) (by decide) (by decide +kernel))))
theorem xb202_22 (hC : z_HC l G d z_tb C) : z_SB "QuotaPeers$Message" prog_6_method_7_code 10 false d G l C ((Option.some Jvm.ClassFile.FieldType.boolean)) xp202 196 xB202_22.1 xB202_22.2 := sb_cons (n := 1) hC.1 (tz_ldA _) (so_aload_n 0 (by decide +kernel)) (sb_cons (n := 3) hC.1 (tz_cI _) (so_sipush (5014) (5014) (by decide +kernel) (by decide +kernel)) (sb_cons (n := 2) hC.1 (tz_ldI _) (so_iload 5 (by decide +kernel)) (sb_cons (n := 3) hC.1 (tz_crV _ _ _) (xc_201 hC w815 (by decide +kernel)) (sb_nil (tz_zret) (st_zret rfl (by decide +kernel))))))
theorem xb202_23 (hC : z_HC l G d z_tb C) : z_SB "QuotaPeers$Message" prog_6_method_7_code 10 false d G l C ((Option.some Jvm.ClassFile.FieldType.boolean)) xp202 206 xB202_23.1 xB202_23.2 := sb_cons (n := 2) hC.1 (tz_ldI _) (so_iload 9 (by decide +kernel)) (sb_cons (n := 1) hC.1 (tz_cI _) (so_iconst (5) (5) (by decide +kernel) (by decide +kernel)) (sb_nil (tz_icmp _ _ _ _ _) (st_icmp_ne (off := 25) (by decide) (by decide) (by decide +kernel))))
theorem xb202_24 (hC : z_HC l G d z_tb C) : z_SB "QuotaPeers$Message" prog_6_method_7_code 10 false d G l C ((Option.some Jvm.ClassFile.FieldType.boolean)) xp202 212 xB202_24.1 xB202_24.2 := sb_cons (n := 1) hC.1 (tz_ldA _) (so_aload_n 0 (by decide +kernel)) (sb_cons (n := 2) hC.1 (tz_ldI _) (so_iload 4 (by decide +kernel)) (sb_cons (n := 2) hC.1 (tz_ldI _) (so_iload 8 (by decide +kernel)) (sb_cons (n := 1) hC.1 (tz_ii _) (so_iadd (by decide +kernel)) (sb_cons (n := 2) hC.1 (tz_ldI _) (so_iload 4 (by decide +kernel)) (sb_cons (n := 2) hC.1 (tz_ldI _) (so_iload 7 (by decide +kernel)) (sb_cons (n := 1) hC.1 (tz_ii _) (so_iadd (by decide +kernel)) (sb_cons (n := 1) hC.1 (tz_ldI _) (so_iload_n 3 (by decide +kernel)) (sb_cons (n := 1) hC.1 (tz_cI _) (so_iconst (1) (1) (by decide +kernel) (by decide +kernel)) (sb_cons (n := 1) hC.1 (tz_ii _) (so_iadd (by decide +kernel)) (sb_cons (n := 3) hC.1 (tz_crS _ _) (xc_202 hC w819 (by decide +kernel)) (sb_nil (tz_if _ _ _ _ _) (st_if_eq (off := 5) (by decide) (by decide) (by decide +kernel)))))))))))))
theorem xb202_25 (hC : z_HC l G d z_tb C) : z_SB "QuotaPeers$Message" prog_6_method_7_code 10 false d G l C ((Option.some Jvm.ClassFile.FieldType.boolean)) xp202 232 xB202_25.1 xB202_25.2 := sb_cons (n := 1) hC.1 (tz_cI _) (so_iconst (1) (1) (by decide +kernel) (by decide +kernel)) (sb_nil (tz_zret) (st_zret rfl (by decide +kernel)))
theorem xb202_26 (hC : z_HC l G d z_tb C) : z_SB "QuotaPeers$Message" prog_6_method_7_code 10 false d G l C ((Option.some Jvm.ClassFile.FieldType.boolean)) xp202 234 xB202_26.1 xB202_26.2 := sb_cons (n := 2) hC.1 (tz_ldI _) (so_iload 9 (by decide +kernel)) (sb_nil (tz_if _ _ _ _ _) (st_if_eq (off := 23) (by decide) (by decide) (by decide +kernel)))
theorem xb202_27 (hC : z_HC l G d z_tb C) : z_SB "QuotaPeers$Message" prog_6_method_7_code 10 false d G l C ((Option.some Jvm.ClassFile.FieldType.boolean)) xp202 239 xB202_27.1 xB202_27.2 := sb_cons (n := 1) hC.1 (tz_ldI _) (so_iload_n 3 (by decide +kernel)) (sb_nil (tz_if _ _ _ _ _) (st_if_ne (off := 19) (by decide) (by decide) (by decide +kernel)))
theorem xb202_28 (hC : z_HC l G d z_tb C) : z_SB "QuotaPeers$Message" prog_6_method_7_code 10 false d G l C ((Option.some Jvm.ClassFile.FieldType.boolean)) xp202 243 xB202_28.1 xB202_28.2 := sb_cons (n := 1) hC.1 (tz_ldA _) (so_aload_n 0 (by decide +kernel)) (sb_cons (n := 2) hC.1 (tz_ldI _) (so_iload 5 (by decide +kernel)) (sb_cons (n := 2) hC.1 (tz_ldI _) (so_iload 4 (by decide +kernel)) (sb_cons (n := 2) hC.1 (tz_ldI _) (so_iload 8 (by decide +kernel)) (sb_cons (n := 1) hC.1 (tz_ii _) (so_iadd (by decide +kernel)) (sb_cons (n := 2) hC.1 (tz_ldI _) (so_iload 7 (by decide +kernel)) (sb_cons (n := 2) hC.1 (tz_ldI _) (so_iload 8 (by decide +kernel)) (sb_cons (n := 1) hC.1 (tz_ii _) (so_isub (by decide +kernel)) (sb_cons (n := 3) hC.1 (tz_cvV _ _ _) (xc_203 hC w828 (by decide +kernel)) (sb_nil (tz_goto _ _) (st_fall (by decide)))))))))))
theorem xb202_29 (hC : z_HC l G d z_tb C) : z_SB "QuotaPeers$Message" prog_6_method_7_code 10 false d G l C ((Option.some Jvm.ClassFile.FieldType.boolean)) xp202 259 xB202_29.1 xB202_29.2 := sb_cons (n := 2) hC.1 (tz_ldI _) (so_iload 4 (by decide +kernel)) (sb_cons (n := 2) hC.1 (tz_ldI _) (so_iload 7 (by decide +kernel)) (sb_cons (n := 1) hC.1 (tz_cI _) (so_iconst (3) (3) (by decide +kernel) (by decide +kernel)) (sb_cons (n := 1) hC.1 (tz_ii _) (so_iadd (by decide +kernel)) (sb_cons (n := 1) hC.1 (tz_cI _) (so_iconst (4) (4) (by decide +kernel) (by decide +kernel)) (sb_cons (n := 1) hC.1 (tz_div) (so_idiv (by decide +kernel)) (sb_cons (n := 1) hC.1 (tz_cI _) (so_iconst (4) (4) (by decide +kernel) (by decide +kernel)) (sb_cons (n := 1) hC.1 (tz_ii _) (so_imul (by decide +kernel)) (sb_cons (n := 1) hC.1 (tz_ii _) (so_iadd (by decide +kernel)) (sb_cons (n := 2) hC.1 (tz_stI _) (so_istore 4 (by decide) (by decide +kernel)) (sb_nil (tz_goto _ _) (st_goto (off := -269) (by decide) (by decide +kernel))))))))))))
theorem xb202_30 (hC : z_HC l G d z_tb C) : z_SB "QuotaPeers$Message" prog_6_method_7_code 10 false d G l C ((Option.some Jvm.ClassFile.FieldType.boolean)) xp202 275 xB202_30.1 xB202_30.2 := sb_cons (n := 1) hC.1 (tz_cI _) (so_iconst (0) (0) (by decide +kernel) (by decide +kernel)) (sb_nil (tz_zret) (st_zret rfl (by decide +kernel)))
theorem xm202 (hC : z_HC l G d z_tb C) : z_SM "QuotaPeers$Message" prog_6_method_7_code 10 false d G l C ((Option.some Jvm.ClassFile.FieldType.boolean)) xp202 xP202 := by
  intro b
  match b with
  | 0 => exact xb202_0 hC
  | 1 => exact xb202_1 hC
  | 2 => exact xb202_2 hC
  | 3 => exact xb202_3 hC
  | 4 => exact xb202_4 hC
  | 5 => exact xb202_5 hC
  | 6 => exact xb202_6 hC
  | 7 => exact xb202_7 hC
  | 8 => exact xb202_8 hC
  | 9 => exact xb202_9 hC
  | 10 => exact xb202_10 hC
  | 11 => exact xb202_11 hC
  | 12 => exact xb202_12 hC
  | 13 => exact xb202_13 hC
  | 14 => exact xb202_14 hC
  | 15 => exact xb202_15 hC
  | 16 => exact xb202_16 hC
  | 17 => exact xb202_17 hC
  | 18 => exact xb202_18 hC
  | 19 => exact xb202_19 hC
  | 20 => exact xb202_20 hC
  | 21 => exact xb202_21 hC
  | 22 => exact xb202_22 hC
  | 23 => exact xb202_23 hC
  | 24 => exact xb202_24 hC
  | 25 => exact xb202_25 hC
  | 26 => exact xb202_26 hC
  | 27 => exact xb202_27 hC
  | 28 => exact xb202_28 hC
  | 29 => exact xb202_29 hC
  | 30 => exact xb202_30 hC
  | _ + 31 => exact sb_dead
end
/-! QuotaPeers$Message.note(III)V -/
def xB203_0 : List z_Op × z_Tm := ([zo_ldA 0, zo_gR 3 8, zo_ldA 0, zo_gI 3 11, zo_ldI 1, zo_astI, zo_ldA 0, zo_gR 3 9, zo_ldA 0, zo_gI 3 11, zo_ldI 2, zo_astI, zo_ldA 0, zo_gR 3 10, zo_ldA 0, zo_gI 3 11, zo_ldI 3, zo_astI, zo_ldA 0, zo_dupR, zo_gI 3 11, zo_cI (1), zo_ii ((· + ·)), zo_pI 3 11], zt_vret)
def xp203 : Nat → Nat := fun b => ([0] : List Nat).getD b 0
def xP203 : z_M := fun b => ([xB203_0] : List (List z_Op × z_Tm)).getD b z_dead
section
variable {d : Nat} {G : z_G} {l : Launch} {C : z_O}
theorem xb203_0 (hC : z_HC l G d z_tb C) : z_SB "QuotaPeers$Message" prog_6_method_8_code 4 false d G l C ((Option.none : Option Jvm.ClassFile.FieldType)) xp203 0 xB203_0.1 xB203_0.2 := sb_cons (n := 1) hC.1 (tz_ldA _) (so_aload_n 0 (by decide +kernel)) (sb_cons (n := 3) hC.1 (tz_gR _ _) (xg_3_8 w222 (by decide +kernel)) (sb_cons (n := 1) hC.1 (tz_ldA _) (so_aload_n 0 (by decide +kernel)) (sb_cons (n := 3) hC.1 (tz_gI _ _) (xg_3_11 w228 (by decide +kernel)) (sb_cons (n := 1) hC.1 (tz_ldI _) (so_iload_n 1 (by decide +kernel)) (sb_cons (n := 1) hC.1 (tz_astI) (so_iastore (by decide +kernel)) (sb_cons (n := 1) hC.1 (tz_ldA _) (so_aload_n 0 (by decide +kernel)) (sb_cons (n := 3) hC.1 (tz_gR _ _) (xg_3_9 w224 (by decide +kernel)) (sb_cons (n := 1) hC.1 (tz_ldA _) (so_aload_n 0 (by decide +kernel)) (sb_cons (n := 3) hC.1 (tz_gI _ _) (xg_3_11 w228 (by decide +kernel)) (sb_cons (n := 1) hC.1 (tz_ldI _) (so_iload_n 2 (by decide +kernel)) (sb_cons (n := 1) hC.1 (tz_astI) (so_iastore (by decide +kernel)) (sb_cons (n := 1) hC.1 (tz_ldA _) (so_aload_n 0 (by decide +kernel)) (sb_cons (n := 3) hC.1 (tz_gR _ _) (xg_3_10 w226 (by decide +kernel)) (sb_cons (n := 1) hC.1 (tz_ldA _) (so_aload_n 0 (by decide +kernel)) (sb_cons (n := 3) hC.1 (tz_gI _ _) (xg_3_11 w228 (by decide +kernel)) (sb_cons (n := 1) hC.1 (tz_ldI _) (so_iload_n 3 (by decide +kernel)) (sb_cons (n := 1) hC.1 (tz_astI) (so_iastore (by decide +kernel)) (sb_cons (n := 1) hC.1 (tz_ldA _) (so_aload_n 0 (by decide +kernel)) (sb_cons (n := 1) hC.1 (tz_dupR) (so_dupR (by decide +kernel)) (sb_cons (n := 3) hC.1 (tz_gI _ _) (xg_3_11 w228 (by decide +kernel)) (sb_cons (n := 1) hC.1 (tz_cI _) (so_iconst (1) (1) (by decide +kernel) (by decide +kernel)) (sb_cons (n := 1) hC.1 (tz_ii _) (so_iadd (by decide +kernel)) (sb_cons (n := 3) hC.1 (tz_pI _ _) (xp_3_11 w228 (by decide +kernel)) (sb_nil (tz_vret) (st_vret rfl (by decide +kernel))))))))))))))))))))))))))
theorem xm203 (hC : z_HC l G d z_tb C) : z_SM "QuotaPeers$Message" prog_6_method_8_code 4 false d G l C ((Option.none : Option Jvm.ClassFile.FieldType)) xp203 xP203 := by
  intro b
  match b with
  | 0 => exact xb203_0 hC
  | _ + 1 => exact sb_dead
end
/-! QuotaPeers$Message.many(I)I -/
def xB204_0 : List z_Op × z_Tm := ([zo_cI (0), zo_stI 2, zo_cI (0), zo_stI 3], zt_goto 1 [true, true, true, true])
def xB204_1 : List z_Op × z_Tm := ([zo_ldI 3, zo_ldA 0, zo_gI 3 11], zt_icmp (fun x y => y ≤ x) 6 [false, false, true, false] 2 [true, true, true, true])
def xB204_2 : List z_Op × z_Tm := ([zo_ldI 2, zo_ldA 0, zo_gR 3 8, zo_ldI 3, zo_aldI 16, zo_ldI 1], zt_icmp (fun x y => x = y) 3 [true, true, false, true] 4 [true, true, false, true])
def xB204_3 : List z_Op × z_Tm := ([zo_cI (1)], zt_goto 5 [true, true, false, true])
def xB204_4 : List z_Op × z_Tm := ([zo_cI (0)], zt_goto 5 [true, true, false, true])
def xB204_5 : List z_Op × z_Tm := ([zo_ii ((· + ·)), zo_stI 2, zo_inc 3 (1)], zt_goto 1 [true, true, true, true])
def xB204_6 : List z_Op × z_Tm := ([zo_ldI 2], zt_iret)
def xp204 : Nat → Nat := fun b => ([0, 4, 12, 23, 27, 28, 36] : List Nat).getD b 0
def xP204 : z_M := fun b => ([xB204_0, xB204_1, xB204_2, xB204_3, xB204_4, xB204_5, xB204_6] : List (List z_Op × z_Tm)).getD b z_dead
section
variable {d : Nat} {G : z_G} {l : Launch} {C : z_O}
theorem xb204_0 (hC : z_HC l G d z_tb C) : z_SB "QuotaPeers$Message" prog_6_method_9_code 4 false d G l C ((Option.some Jvm.ClassFile.FieldType.int)) xp204 0 xB204_0.1 xB204_0.2 := sb_cons (n := 1) hC.1 (tz_cI _) (so_iconst (0) (0) (by decide +kernel) (by decide +kernel)) (sb_cons (n := 1) hC.1 (tz_stI _) (so_istore_n 2 (by decide) (by decide +kernel)) (sb_cons (n := 1) hC.1 (tz_cI _) (so_iconst (0) (0) (by decide +kernel) (by decide +kernel)) (sb_cons (n := 1) hC.1 (tz_stI _) (so_istore_n 3 (by decide) (by decide +kernel)) (sb_nil (tz_goto _ _) (st_fall (by decide))))))
theorem xb204_1 (hC : z_HC l G d z_tb C) : z_SB "QuotaPeers$Message" prog_6_method_9_code 4 false d G l C ((Option.some Jvm.ClassFile.FieldType.int)) xp204 4 xB204_1.1 xB204_1.2 := sb_cons (n := 1) hC.1 (tz_ldI _) (so_iload_n 3 (by decide +kernel)) (sb_cons (n := 1) hC.1 (tz_ldA _) (so_aload_n 0 (by decide +kernel)) (sb_cons (n := 3) hC.1 (tz_gI _ _) (xg_3_11 w228 (by decide +kernel)) (sb_nil (tz_icmp _ _ _ _ _) (st_icmp_ge (off := 27) (by decide) (by decide) (by decide +kernel)))))
theorem xb204_2 (hC : z_HC l G d z_tb C) : z_SB "QuotaPeers$Message" prog_6_method_9_code 4 false d G l C ((Option.some Jvm.ClassFile.FieldType.int)) xp204 12 xB204_2.1 xB204_2.2 := sb_cons (n := 1) hC.1 (tz_ldI _) (so_iload_n 2 (by decide +kernel)) (sb_cons (n := 1) hC.1 (tz_ldA _) (so_aload_n 0 (by decide +kernel)) (sb_cons (n := 3) hC.1 (tz_gR _ _) (xg_3_8 w222 (by decide +kernel)) (sb_cons (n := 1) hC.1 (tz_ldI _) (so_iload_n 3 (by decide +kernel)) (sb_cons (n := 1) hC.1 (tz_aldI _) (so_iaload (by decide +kernel)) (sb_cons (n := 1) hC.1 (tz_ldI _) (so_iload_n 1 (by decide +kernel)) (sb_nil (tz_icmp _ _ _ _ _) (st_icmp_ne (off := 7) (by decide) (by decide) (by decide +kernel))))))))
theorem xb204_3 (hC : z_HC l G d z_tb C) : z_SB "QuotaPeers$Message" prog_6_method_9_code 4 false d G l C ((Option.some Jvm.ClassFile.FieldType.int)) xp204 23 xB204_3.1 xB204_3.2 := sb_cons (n := 1) hC.1 (tz_cI _) (so_iconst (1) (1) (by decide +kernel) (by decide +kernel)) (sb_nil (tz_goto _ _) (st_goto (off := 4) (by decide) (by decide +kernel)))
theorem xb204_4 (hC : z_HC l G d z_tb C) : z_SB "QuotaPeers$Message" prog_6_method_9_code 4 false d G l C ((Option.some Jvm.ClassFile.FieldType.int)) xp204 27 xB204_4.1 xB204_4.2 := sb_cons (n := 1) hC.1 (tz_cI _) (so_iconst (0) (0) (by decide +kernel) (by decide +kernel)) (sb_nil (tz_goto _ _) (st_fall (by decide)))
theorem xb204_5 (hC : z_HC l G d z_tb C) : z_SB "QuotaPeers$Message" prog_6_method_9_code 4 false d G l C ((Option.some Jvm.ClassFile.FieldType.int)) xp204 28 xB204_5.1 xB204_5.2 := sb_cons (n := 1) hC.1 (tz_ii _) (so_iadd (by decide +kernel)) (sb_cons (n := 1) hC.1 (tz_stI _) (so_istore_n 2 (by decide) (by decide +kernel)) (sb_cons (n := 3) hC.1 (tz_inc _ _) (so_iinc 3 (1) (1) (by decide +kernel) (by decide) (by decide +kernel)) (sb_nil (tz_goto _ _) (st_goto (off := -29) (by decide) (by decide +kernel)))))
theorem xb204_6 (hC : z_HC l G d z_tb C) : z_SB "QuotaPeers$Message" prog_6_method_9_code 4 false d G l C ((Option.some Jvm.ClassFile.FieldType.int)) xp204 36 xB204_6.1 xB204_6.2 := sb_cons (n := 1) hC.1 (tz_ldI _) (so_iload_n 2 (by decide +kernel)) (sb_nil (tz_iret) (st_iret rfl (by decide +kernel)))
theorem xm204 (hC : z_HC l G d z_tb C) : z_SM "QuotaPeers$Message" prog_6_method_9_code 4 false d G l C ((Option.some Jvm.ClassFile.FieldType.int)) xp204 xP204 := by
  intro b
  match b with
  | 0 => exact xb204_0 hC
  | 1 => exact xb204_1 hC
  | 2 => exact xb204_2 hC
  | 3 => exact xb204_3 hC
  | 4 => exact xb204_4 hC
  | 5 => exact xb204_5 hC
  | 6 => exact xb204_6 hC
  | _ + 7 => exact sb_dead
end
/-! QuotaPeers$Message.find(I)I -/
def xB205_0 : List z_Op × z_Tm := ([zo_cI (0), zo_stI 2], zt_goto 1 [true, true, true])
def xB205_1 : List z_Op × z_Tm := ([zo_ldI 2, zo_ldA 0, zo_gI 3 11], zt_icmp (fun x y => y ≤ x) 4 [true, false, true] 2 [true, true, true])
def xB205_2 : List z_Op × z_Tm := ([zo_ldA 0, zo_gR 3 8, zo_ldI 2, zo_aldI 16, zo_ldI 1], zt_icmp (fun x y => x = y) 4 [true, false, true] 3 [true, true, true])
def xB205_3 : List z_Op × z_Tm := ([zo_inc 2 (1)], zt_goto 1 [true, true, true])
def xB205_4 : List z_Op × z_Tm := ([zo_ldI 2, zo_ldA 0, zo_gI 3 11], zt_icmp (fun x y => x = y) 5 [false, false, false] 6 [false, false, true])
def xB205_5 : List z_Op × z_Tm := ([zo_cI (-1)], zt_goto 7 [false, false, false])
def xB205_6 : List z_Op × z_Tm := ([zo_ldI 2], zt_goto 7 [false, false, false])
def xB205_7 : List z_Op × z_Tm := ([], zt_iret)
def xp205 : Nat → Nat := fun b => ([0, 2, 10, 20, 26, 34, 38, 39] : List Nat).getD b 0
def xP205 : z_M := fun b => ([xB205_0, xB205_1, xB205_2, xB205_3, xB205_4, xB205_5, xB205_6, xB205_7] : List (List z_Op × z_Tm)).getD b z_dead
section
variable {d : Nat} {G : z_G} {l : Launch} {C : z_O}
theorem xb205_0 (hC : z_HC l G d z_tb C) : z_SB "QuotaPeers$Message" prog_6_method_10_code 3 false d G l C ((Option.some Jvm.ClassFile.FieldType.int)) xp205 0 xB205_0.1 xB205_0.2 := sb_cons (n := 1) hC.1 (tz_cI _) (so_iconst (0) (0) (by decide +kernel) (by decide +kernel)) (sb_cons (n := 1) hC.1 (tz_stI _) (so_istore_n 2 (by decide) (by decide +kernel)) (sb_nil (tz_goto _ _) (st_fall (by decide))))
theorem xb205_1 (hC : z_HC l G d z_tb C) : z_SB "QuotaPeers$Message" prog_6_method_10_code 3 false d G l C ((Option.some Jvm.ClassFile.FieldType.int)) xp205 2 xB205_1.1 xB205_1.2 := sb_cons (n := 1) hC.1 (tz_ldI _) (so_iload_n 2 (by decide +kernel)) (sb_cons (n := 1) hC.1 (tz_ldA _) (so_aload_n 0 (by decide +kernel)) (sb_cons (n := 3) hC.1 (tz_gI _ _) (xg_3_11 w228 (by decide +kernel)) (sb_nil (tz_icmp _ _ _ _ _) (st_icmp_ge (off := 19) (by decide) (by decide) (by decide +kernel)))))
theorem xb205_2 (hC : z_HC l G d z_tb C) : z_SB "QuotaPeers$Message" prog_6_method_10_code 3 false d G l C ((Option.some Jvm.ClassFile.FieldType.int)) xp205 10 xB205_2.1 xB205_2.2 := sb_cons (n := 1) hC.1 (tz_ldA _) (so_aload_n 0 (by decide +kernel)) (sb_cons (n := 3) hC.1 (tz_gR _ _) (xg_3_8 w222 (by decide +kernel)) (sb_cons (n := 1) hC.1 (tz_ldI _) (so_iload_n 2 (by decide +kernel)) (sb_cons (n := 1) hC.1 (tz_aldI _) (so_iaload (by decide +kernel)) (sb_cons (n := 1) hC.1 (tz_ldI _) (so_iload_n 1 (by decide +kernel)) (sb_nil (tz_icmp _ _ _ _ _) (st_icmp_eq (off := 9) (by decide) (by decide) (by decide +kernel)))))))
theorem xb205_3 (hC : z_HC l G d z_tb C) : z_SB "QuotaPeers$Message" prog_6_method_10_code 3 false d G l C ((Option.some Jvm.ClassFile.FieldType.int)) xp205 20 xB205_3.1 xB205_3.2 := sb_cons (n := 3) hC.1 (tz_inc _ _) (so_iinc 2 (1) (1) (by decide +kernel) (by decide) (by decide +kernel)) (sb_nil (tz_goto _ _) (st_goto (off := -21) (by decide) (by decide +kernel)))
theorem xb205_4 (hC : z_HC l G d z_tb C) : z_SB "QuotaPeers$Message" prog_6_method_10_code 3 false d G l C ((Option.some Jvm.ClassFile.FieldType.int)) xp205 26 xB205_4.1 xB205_4.2 := sb_cons (n := 1) hC.1 (tz_ldI _) (so_iload_n 2 (by decide +kernel)) (sb_cons (n := 1) hC.1 (tz_ldA _) (so_aload_n 0 (by decide +kernel)) (sb_cons (n := 3) hC.1 (tz_gI _ _) (xg_3_11 w228 (by decide +kernel)) (sb_nil (tz_icmp _ _ _ _ _) (st_icmp_ne (off := 7) (by decide) (by decide) (by decide +kernel)))))
theorem xb205_5 (hC : z_HC l G d z_tb C) : z_SB "QuotaPeers$Message" prog_6_method_10_code 3 false d G l C ((Option.some Jvm.ClassFile.FieldType.int)) xp205 34 xB205_5.1 xB205_5.2 := sb_cons (n := 1) hC.1 (tz_cI _) (so_iconst (-1) (-1) (by decide +kernel) (by decide +kernel)) (sb_nil (tz_goto _ _) (st_goto (off := 4) (by decide) (by decide +kernel)))
theorem xb205_6 (hC : z_HC l G d z_tb C) : z_SB "QuotaPeers$Message" prog_6_method_10_code 3 false d G l C ((Option.some Jvm.ClassFile.FieldType.int)) xp205 38 xB205_6.1 xB205_6.2 := sb_cons (n := 1) hC.1 (tz_ldI _) (so_iload_n 2 (by decide +kernel)) (sb_nil (tz_goto _ _) (st_fall (by decide)))
theorem xb205_7 (hC : z_HC l G d z_tb C) : z_SB "QuotaPeers$Message" prog_6_method_10_code 3 false d G l C ((Option.some Jvm.ClassFile.FieldType.int)) xp205 39 xB205_7.1 xB205_7.2 := sb_nil (tz_iret) (st_iret rfl (by decide +kernel))
theorem xm205 (hC : z_HC l G d z_tb C) : z_SM "QuotaPeers$Message" prog_6_method_10_code 3 false d G l C ((Option.some Jvm.ClassFile.FieldType.int)) xp205 xP205 := by
  intro b
  match b with
  | 0 => exact xb205_0 hC
  | 1 => exact xb205_1 hC
  | 2 => exact xb205_2 hC
  | 3 => exact xb205_3 hC
  | 4 => exact xb205_4 hC
  | 5 => exact xb205_5 hC
  | 6 => exact xb205_6 hC
  | 7 => exact xb205_7 hC
  | _ + 8 => exact sb_dead
end
/-! QuotaPeers$Message.has(I)Z -/
def xB206_0 : List z_Op × z_Tm := ([zo_ldA 0, zo_ldI 1, zo_crV 205 1 3], zt_if (fun x => x < 0) 2 [false, false] 1 [false, false])
def xB206_1 : List z_Op × z_Tm := ([zo_cI (1)], zt_goto 3 [false, false])
def xB206_2 : List z_Op × z_Tm := ([zo_cI (0)], zt_goto 3 [false, false])
def xB206_3 : List z_Op × z_Tm := ([], zt_zret)
def xp206 : Nat → Nat := fun b => ([0, 8, 12, 13] : List Nat).getD b 0
def xP206 : z_M := fun b => ([xB206_0, xB206_1, xB206_2, xB206_3] : List (List z_Op × z_Tm)).getD b z_dead
section
variable {d : Nat} {G : z_G} {l : Launch} {C : z_O}
theorem xb206_0 (hC : z_HC l G d z_tb C) : z_SB "QuotaPeers$Message" prog_6_method_11_code 2 false d G l C ((Option.some Jvm.ClassFile.FieldType.boolean)) xp206 0 xB206_0.1 xB206_0.2 := sb_cons (n := 1) hC.1 (tz_ldA _) (so_aload_n 0 (by decide +kernel)) (sb_cons (n := 1) hC.1 (tz_ldI _) (so_iload_n 1 (by decide +kernel)) (sb_cons (n := 3) hC.1 (tz_crV _ _ _) (xc_205 hC w840 (by decide +kernel)) (sb_nil (tz_if _ _ _ _ _) (st_if_lt (off := 7) (by decide) (by decide) (by decide +kernel)))))
theorem xb206_1 (hC : z_HC l G d z_tb C) : z_SB "QuotaPeers$Message" prog_6_method_11_code 2 false d G l C ((Option.some Jvm.ClassFile.FieldType.boolean)) xp206 8 xB206_1.1 xB206_1.2 := sb_cons (n := 1) hC.1 (tz_cI _) (so_iconst (1) (1) (by decide +kernel) (by decide +kernel)) (sb_nil (tz_goto _ _) (st_goto (off := 4) (by decide) (by decide +kernel)))
theorem xb206_2 (hC : z_HC l G d z_tb C) : z_SB "QuotaPeers$Message" prog_6_method_11_code 2 false d G l C ((Option.some Jvm.ClassFile.FieldType.boolean)) xp206 12 xB206_2.1 xB206_2.2 := sb_cons (n := 1) hC.1 (tz_cI _) (so_iconst (0) (0) (by decide +kernel) (by decide +kernel)) (sb_nil (tz_goto _ _) (st_fall (by decide)))
theorem xb206_3 (hC : z_HC l G d z_tb C) : z_SB "QuotaPeers$Message" prog_6_method_11_code 2 false d G l C ((Option.some Jvm.ClassFile.FieldType.boolean)) xp206 13 xB206_3.1 xB206_3.2 := sb_nil (tz_zret) (st_zret rfl (by decide +kernel))
theorem xm206 (hC : z_HC l G d z_tb C) : z_SM "QuotaPeers$Message" prog_6_method_11_code 2 false d G l C ((Option.some Jvm.ClassFile.FieldType.boolean)) xp206 xP206 := by
  intro b
  match b with
  | 0 => exact xb206_0 hC
  | 1 => exact xb206_1 hC
  | 2 => exact xb206_2 hC
  | 3 => exact xb206_3 hC
  | _ + 4 => exact sb_dead
end
/-! QuotaPeers$Message.number(I)J -/
def xB207_0 : List z_Op × z_Tm := ([zo_ldA 0, zo_ldI 1, zo_crV 205 1 3, zo_stI 2, zo_ldI 2], zt_if (fun x => 0 ≤ x) 2 [true, false, true] 1 [false, false, false])
def xB207_1 : List z_Op × z_Tm := ([zo_cJ (-1)], zt_goto 3 [false, false, false])
def xB207_2 : List z_Op × z_Tm := ([zo_ldA 0, zo_ldA 0, zo_gR 3 9, zo_ldI 2, zo_aldI 16, zo_cI (4), zo_crV 197 2 3], zt_goto 3 [false, false, false])
def xB207_3 : List z_Op × z_Tm := ([], zt_lret)
def xp207 : Nat → Nat := fun b => ([0, 10, 16, 27] : List Nat).getD b 0
def xP207 : z_M := fun b => ([xB207_0, xB207_1, xB207_2, xB207_3] : List (List z_Op × z_Tm)).getD b z_dead
section
variable {d : Nat} {G : z_G} {l : Launch} {C : z_O}
theorem xb207_0 (hC : z_HC l G d z_tb C) : z_SB "QuotaPeers$Message" prog_6_method_12_code 3 false d G l C ((Option.some Jvm.ClassFile.FieldType.long)) xp207 0 xB207_0.1 xB207_0.2 := sb_cons (n := 1) hC.1 (tz_ldA _) (so_aload_n 0 (by decide +kernel)) (sb_cons (n := 1) hC.1 (tz_ldI _) (so_iload_n 1 (by decide +kernel)) (sb_cons (n := 3) hC.1 (tz_crV _ _ _) (xc_205 hC w840 (by decide +kernel)) (sb_cons (n := 1) hC.1 (tz_stI _) (so_istore_n 2 (by decide) (by decide +kernel)) (sb_cons (n := 1) hC.1 (tz_ldI _) (so_iload_n 2 (by decide +kernel)) (sb_nil (tz_if _ _ _ _ _) (st_if_ge (off := 9) (by decide) (by decide) (by decide +kernel)))))))
theorem xb207_1 (hC : z_HC l G d z_tb C) : z_SB "QuotaPeers$Message" prog_6_method_12_code 3 false d G l C ((Option.some Jvm.ClassFile.FieldType.long)) xp207 10 xB207_1.1 xB207_1.2 := sb_cons (n := 3) hC.1 (tz_cJ _) (so_ldc2 74 (-1) w905 (by decide +kernel)) (sb_nil (tz_goto _ _) (st_goto (off := 14) (by decide) (by decide +kernel)))
theorem xb207_2 (hC : z_HC l G d z_tb C) : z_SB "QuotaPeers$Message" prog_6_method_12_code 3 false d G l C ((Option.some Jvm.ClassFile.FieldType.long)) xp207 16 xB207_2.1 xB207_2.2 := sb_cons (n := 1) hC.1 (tz_ldA _) (so_aload_n 0 (by decide +kernel)) (sb_cons (n := 1) hC.1 (tz_ldA _) (so_aload_n 0 (by decide +kernel)) (sb_cons (n := 3) hC.1 (tz_gR _ _) (xg_3_9 w224 (by decide +kernel)) (sb_cons (n := 1) hC.1 (tz_ldI _) (so_iload_n 2 (by decide +kernel)) (sb_cons (n := 1) hC.1 (tz_aldI _) (so_iaload (by decide +kernel)) (sb_cons (n := 1) hC.1 (tz_cI _) (so_iconst (4) (4) (by decide +kernel) (by decide +kernel)) (sb_cons (n := 3) hC.1 (tz_crV _ _ _) (xc_197 hC w797 (by decide +kernel)) (sb_nil (tz_goto _ _) (st_fall (by decide)))))))))
theorem xb207_3 (hC : z_HC l G d z_tb C) : z_SB "QuotaPeers$Message" prog_6_method_12_code 3 false d G l C ((Option.some Jvm.ClassFile.FieldType.long)) xp207 27 xB207_3.1 xB207_3.2 := sb_nil (tz_lret) (st_lret rfl (by decide +kernel))
theorem xm207 (hC : z_HC l G d z_tb C) : z_SM "QuotaPeers$Message" prog_6_method_12_code 3 false d G l C ((Option.some Jvm.ClassFile.FieldType.long)) xp207 xP207 := by
  intro b
  match b with
  | 0 => exact xb207_0 hC
  | 1 => exact xb207_1 hC
  | 2 => exact xb207_2 hC
  | 3 => exact xb207_3 hC
  | _ + 4 => exact sb_dead
end
/-! QuotaPeers$Message.isText(ILQuotaPeers$Text;)Z -/
def xB208_0 : List z_Op × z_Tm := ([zo_ldA 0, zo_ldI 1, zo_crV 205 1 3, zo_stI 3, zo_ldI 3], zt_if (fun x => x < 0) 3 [false, false, false, false] 1 [true, false, true, true])
def xB208_1 : List z_Op × z_Tm := ([zo_ldA 2, zo_ldA 0, zo_gR 3 1, zo_ldA 0, zo_gR 3 9, zo_ldI 3, zo_aldI 16, zo_ldA 0, zo_gR 3 10, zo_ldI 3, zo_aldI 16, zo_crV 244 3 1], zt_if (fun x => x = 0) 3 [false, false, false, false] 2 [false, false, false, false])
def xB208_2 : List z_Op × z_Tm := ([zo_cI (1)], zt_goto 4 [false, false, false, false])
def xB208_3 : List z_Op × z_Tm := ([zo_cI (0)], zt_goto 4 [false, false, false, false])
def xB208_4 : List z_Op × z_Tm := ([], zt_zret)
def xp208 : Nat → Nat := fun b => ([0, 10, 33, 37, 38] : List Nat).getD b 0
def xP208 : z_M := fun b => ([xB208_0, xB208_1, xB208_2, xB208_3, xB208_4] : List (List z_Op × z_Tm)).getD b z_dead
section
variable {d : Nat} {G : z_G} {l : Launch} {C : z_O}
theorem xb208_0 (hC : z_HC l G d z_tb C) : z_SB "QuotaPeers$Message" prog_6_method_13_code 4 false d G l C ((Option.some Jvm.ClassFile.FieldType.boolean)) xp208 0 xB208_0.1 xB208_0.2 := sb_cons (n := 1) hC.1 (tz_ldA _) (so_aload_n 0 (by decide +kernel)) (sb_cons (n := 1) hC.1 (tz_ldI _) (so_iload_n 1 (by decide +kernel)) (sb_cons (n := 3) hC.1 (tz_crV _ _ _) (xc_205 hC w840 (by decide +kernel)) (sb_cons (n := 1) hC.1 (tz_stI _) (so_istore_n 3 (by decide) (by decide +kernel)) (sb_cons (n := 1) hC.1 (tz_ldI _) (so_iload_n 3 (by decide +kernel)) (sb_nil (tz_if _ _ _ _ _) (st_if_lt (off := 30) (by decide) (by decide) (by decide +kernel)))))))
theorem xb208_1 (hC : z_HC l G d z_tb C) : z_SB "QuotaPeers$Message" prog_6_method_13_code 4 false d G l C ((Option.some Jvm.ClassFile.FieldType.boolean)) xp208 10 xB208_1.1 xB208_1.2 := sb_cons (n := 1) hC.1 (tz_ldA _) (so_aload_n 2 (by decide +kernel)) (sb_cons (n := 1) hC.1 (tz_ldA _) (so_aload_n 0 (by decide +kernel)) (sb_cons (n := 3) hC.1 (tz_gR _ _) (xg_3_1 w209 (by decide +kernel)) (sb_cons (n := 1) hC.1 (tz_ldA _) (so_aload_n 0 (by decide +kernel)) (sb_cons (n := 3) hC.1 (tz_gR _ _) (xg_3_9 w224 (by decide +kernel)) (sb_cons (n := 1) hC.1 (tz_ldI _) (so_iload_n 3 (by decide +kernel)) (sb_cons (n := 1) hC.1 (tz_aldI _) (so_iaload (by decide +kernel)) (sb_cons (n := 1) hC.1 (tz_ldA _) (so_aload_n 0 (by decide +kernel)) (sb_cons (n := 3) hC.1 (tz_gR _ _) (xg_3_10 w226 (by decide +kernel)) (sb_cons (n := 1) hC.1 (tz_ldI _) (so_iload_n 3 (by decide +kernel)) (sb_cons (n := 1) hC.1 (tz_aldI _) (so_iaload (by decide +kernel)) (sb_cons (n := 3) hC.1 (tz_crV _ _ _) (xc_244 hC w882 (by decide +kernel)) (sb_nil (tz_if _ _ _ _ _) (st_if_eq (off := 7) (by decide) (by decide) (by decide +kernel))))))))))))))
theorem xb208_2 (hC : z_HC l G d z_tb C) : z_SB "QuotaPeers$Message" prog_6_method_13_code 4 false d G l C ((Option.some Jvm.ClassFile.FieldType.boolean)) xp208 33 xB208_2.1 xB208_2.2 := sb_cons (n := 1) hC.1 (tz_cI _) (so_iconst (1) (1) (by decide +kernel) (by decide +kernel)) (sb_nil (tz_goto _ _) (st_goto (off := 4) (by decide) (by decide +kernel)))
theorem xb208_3 (hC : z_HC l G d z_tb C) : z_SB "QuotaPeers$Message" prog_6_method_13_code 4 false d G l C ((Option.some Jvm.ClassFile.FieldType.boolean)) xp208 37 xB208_3.1 xB208_3.2 := sb_cons (n := 1) hC.1 (tz_cI _) (so_iconst (0) (0) (by decide +kernel) (by decide +kernel)) (sb_nil (tz_goto _ _) (st_fall (by decide)))
theorem xb208_4 (hC : z_HC l G d z_tb C) : z_SB "QuotaPeers$Message" prog_6_method_13_code 4 false d G l C ((Option.some Jvm.ClassFile.FieldType.boolean)) xp208 38 xB208_4.1 xB208_4.2 := sb_nil (tz_zret) (st_zret rfl (by decide +kernel))
theorem xm208 (hC : z_HC l G d z_tb C) : z_SM "QuotaPeers$Message" prog_6_method_13_code 4 false d G l C ((Option.some Jvm.ClassFile.FieldType.boolean)) xp208 xP208 := by
  intro b
  match b with
  | 0 => exact xb208_0 hC
  | 1 => exact xb208_1 hC
  | 2 => exact xb208_2 hC
  | 3 => exact xb208_3 hC
  | 4 => exact xb208_4 hC
  | _ + 5 => exact sb_dead
end
/-! QuotaPeers$Message.take(ILQuotaPeers$Text;)V -/
def xB209_0 : List z_Op × z_Tm := ([zo_ldA 0, zo_ldI 1, zo_crV 205 1 3, zo_stI 3, zo_ldA 2, zo_ldA 0, zo_gR 3 1, zo_ldA 0, zo_gR 3 9, zo_ldI 3, zo_aldI 16, zo_ldA 0, zo_gR 3 10, zo_ldI 3, zo_aldI 16, zo_cvV 242 3 1], zt_vret)
def xp209 : Nat → Nat := fun b => ([0] : List Nat).getD b 0
def xP209 : z_M := fun b => ([xB209_0] : List (List z_Op × z_Tm)).getD b z_dead
section
variable {d : Nat} {G : z_G} {l : Launch} {C : z_O}
theorem xb209_0 (hC : z_HC l G d z_tb C) : z_SB "QuotaPeers$Message" prog_6_method_14_code 4 false d G l C ((Option.none : Option Jvm.ClassFile.FieldType)) xp209 0 xB209_0.1 xB209_0.2 := sb_cons (n := 1) hC.1 (tz_ldA _) (so_aload_n 0 (by decide +kernel)) (sb_cons (n := 1) hC.1 (tz_ldI _) (so_iload_n 1 (by decide +kernel)) (sb_cons (n := 3) hC.1 (tz_crV _ _ _) (xc_205 hC w840 (by decide +kernel)) (sb_cons (n := 1) hC.1 (tz_stI _) (so_istore_n 3 (by decide) (by decide +kernel)) (sb_cons (n := 1) hC.1 (tz_ldA _) (so_aload_n 2 (by decide +kernel)) (sb_cons (n := 1) hC.1 (tz_ldA _) (so_aload_n 0 (by decide +kernel)) (sb_cons (n := 3) hC.1 (tz_gR _ _) (xg_3_1 w209 (by decide +kernel)) (sb_cons (n := 1) hC.1 (tz_ldA _) (so_aload_n 0 (by decide +kernel)) (sb_cons (n := 3) hC.1 (tz_gR _ _) (xg_3_9 w224 (by decide +kernel)) (sb_cons (n := 1) hC.1 (tz_ldI _) (so_iload_n 3 (by decide +kernel)) (sb_cons (n := 1) hC.1 (tz_aldI _) (so_iaload (by decide +kernel)) (sb_cons (n := 1) hC.1 (tz_ldA _) (so_aload_n 0 (by decide +kernel)) (sb_cons (n := 3) hC.1 (tz_gR _ _) (xg_3_10 w226 (by decide +kernel)) (sb_cons (n := 1) hC.1 (tz_ldI _) (so_iload_n 3 (by decide +kernel)) (sb_cons (n := 1) hC.1 (tz_aldI _) (so_iaload (by decide +kernel)) (sb_cons (n := 3) hC.1 (tz_cvV _ _ _) (xc_242 hC w981 (by decide +kernel)) (sb_nil (tz_vret) (st_vret rfl (by decide +kernel))))))))))))))))))
theorem xm209 (hC : z_HC l G d z_tb C) : z_SM "QuotaPeers$Message" prog_6_method_14_code 4 false d G l C ((Option.none : Option Jvm.ClassFile.FieldType)) xp209 xP209 := by
  intro b
  match b with
  | 0 => exact xb209_0 hC
  | _ + 1 => exact sb_dead
end
/-! QuotaPeers$Message.inside(II)I -/
def xB210_0 : List z_Op × z_Tm := ([zo_ldA 0, zo_ldI 1, zo_crV 205 1 3, zo_stI 3, zo_ldI 3], zt_if (fun x => 0 ≤ x) 2 [true, false, true, true, false, false, false, false] 1 [false, false, false, false, false, false, false, false])
def xB210_1 : List z_Op × z_Tm := ([zo_cI (-1)], zt_iret)
def xB210_2 : List z_Op × z_Tm := ([zo_ldA 0, zo_gR 3 9, zo_ldI 3, zo_aldI 16, zo_stI 4, zo_ldI 4, zo_ldA 0, zo_gR 3 10, zo_ldI 3, zo_aldI 16, zo_ii ((· + ·)), zo_stI 5], zt_goto 3 [true, false, true, false, true, true, false, false])
def xB210_3 : List z_Op × z_Tm := ([zo_ldI 4, zo_ldI 5], zt_icmp (fun x y => y ≤ x) 11 [false, false, false, false, false, false, false, false] 4 [true, false, true, false, true, true, false, false])
def xB210_4 : List z_Op × z_Tm := ([zo_ldA 0, zo_ldI 4, zo_cI (5), zo_ii ((· + ·)), zo_cI (3), zo_crV 197 2 3, zo_l2i, zo_stI 6, zo_ldA 0, zo_gR 3 1, zo_ldI 4, zo_cI (4), zo_ii ((· + ·)), zo_aldI 17, zo_cI (128), zo_ii ((· &&& ·))], zt_if (fun x => x = 0) 6 [true, false, true, false, true, true, true, false] 5 [true, false, true, false, true, true, true, false])
def xB210_5 : List z_Op × z_Tm := ([zo_cI (12)], zt_goto 7 [true, false, true, false, true, true, true, false])
def xB210_6 : List z_Op × z_Tm := ([zo_cI (8)], zt_goto 7 [true, false, true, false, true, true, true, false])
def xB210_7 : List z_Op × z_Tm := ([zo_stI 7, zo_ldI 7, zo_cI (8)], zt_icmp (fun x y => x = y) 8 [true, false, true, false, true, true, true, true] 10 [true, false, true, false, true, true, true, false])
def xB210_8 : List z_Op × z_Tm := ([zo_ldA 0, zo_ldI 4, zo_cI (4), zo_crV 197 2 3, zo_l2i, zo_ldI 2], zt_icmp (fun x y => x = y) 9 [true, false, false, false, true, false, true, true] 10 [true, false, true, false, true, true, true, false])
def xB210_9 : List z_Op × z_Tm := ([zo_ldA 0, zo_ldI 6, zo_ldI 7, zo_ii ((· - ·)), zo_pI 3 14, zo_ldI 4, zo_ldI 7, zo_ii ((· + ·))], zt_iret)
def xB210_10 : List z_Op × z_Tm := ([zo_ldI 4, zo_ldI 6, zo_cI (3), zo_ii ((· + ·)), zo_cI (4), zo_div, zo_cI (4), zo_ii ((· * ·)), zo_ii ((· + ·)), zo_stI 4], zt_goto 3 [true, false, true, false, true, true, false, false])
def xB210_11 : List z_Op × z_Tm := ([zo_cI (-1)], zt_iret)
def xp210 : Nat → Nat := fun b => ([0, 10, 12, 31, 38, 66, 71, 73, 82, 94, 109, 125] : List Nat).getD b 0
def xP210 : z_M := fun b => ([xB210_0, xB210_1, xB210_2, xB210_3, xB210_4, xB210_5, xB210_6, xB210_7, xB210_8, xB210_9, xB210_10, xB210_11] : List (List z_Op × z_Tm)).getD b z_dead
section
variable {d : Nat} {G : z_G} {l : Launch} {C : z_O}
theorem xb210_0 (hC : z_HC l G d z_tb C) : z_SB "QuotaPeers$Message" prog_6_method_15_code 8 false d G l C ((Option.some Jvm.ClassFile.FieldType.int)) xp210 0 xB210_0.1 xB210_0.2 := sb_cons (n := 1) hC.1 (tz_ldA _) (so_aload_n 0 (by decide +kernel)) (sb_cons (n := 1) hC.1 (tz_ldI _) (so_iload_n 1 (by decide +kernel)) (sb_cons (n := 3) hC.1 (tz_crV _ _ _) (xc_205 hC w840 (by decide +kernel)) (sb_cons (n := 1) hC.1 (tz_stI _) (so_istore_n 3 (by decide) (by decide +kernel)) (sb_cons (n := 1) hC.1 (tz_ldI _) (so_iload_n 3 (by decide +kernel)) (sb_nil (tz_if _ _ _ _ _) (st_if_ge (off := 5) (by decide) (by decide) (by decide +kernel)))))))
theorem xb210_1 (hC : z_HC l G d z_tb C) : z_SB "QuotaPeers$Message" prog_6_method_15_code 8 false d G l C ((Option.some Jvm.ClassFile.FieldType.int)) xp210 10 xB210_1.1 xB210_1.2 := sb_cons (n := 1) hC.1 (tz_cI _) (so_iconst (-1) (-1) (by decide +kernel) (by decide +kernel)) (sb_nil (tz_iret) (st_iret rfl (by decide +kernel)))
theorem xb210_2 (hC : z_HC l G d z_tb C) : z_SB "QuotaPeers$Message" prog_6_method_15_code 8 false d G l C ((Option.some Jvm.ClassFile.FieldType.int)) xp210 12 xB210_2.1 xB210_2.2 := sb_cons (n := 1) hC.1 (tz_ldA _) (so_aload_n 0 (by decide +kernel)) (sb_cons (n := 3) hC.1 (tz_gR _ _) (xg_3_9 w224 (by decide +kernel)) (sb_cons (n := 1) hC.1 (tz_ldI _) (so_iload_n 3 (by decide +kernel)) (sb_cons (n := 1) hC.1 (tz_aldI _) (so_iaload (by decide +kernel)) (sb_cons (n := 2) hC.1 (tz_stI _) (so_istore 4 (by decide) (by decide +kernel)) (sb_cons (n := 2) hC.1 (tz_ldI _) (so_iload 4 (by decide +kernel)) (sb_cons (n := 1) hC.1 (tz_ldA _) (so_aload_n 0 (by decide +kernel)) (sb_cons (n := 3) hC.1 (tz_gR _ _) (xg_3_10 w226 (by decide +kernel)) (sb_cons (n := 1) hC.1 (tz_ldI _) (so_iload_n 3 (by decide +kernel)) (sb_cons (n := 1) hC.1 (tz_aldI _) (so_iaload (by decide +kernel)) (sb_cons (n := 1) hC.1 (tz_ii _) (so_iadd (by decide +kernel)) (sb_cons (n := 2) hC.1 (tz_stI _) (so_istore 5 (by decide) (by decide +kernel)) (sb_nil (tz_goto _ _) (st_fall (by decide))))))))))))))
theorem xb210_3 (hC : z_HC l G d z_tb C) : z_SB "QuotaPeers$Message" prog_6_method_15_code 8 false d G l C ((Option.some Jvm.ClassFile.FieldType.int)) xp210 31 xB210_3.1 xB210_3.2 := sb_cons (n := 2) hC.1 (tz_ldI _) (so_iload 4 (by decide +kernel)) (sb_cons (n := 2) hC.1 (tz_ldI _) (so_iload 5 (by decide +kernel)) (sb_nil (tz_icmp _ _ _ _ _) (st_icmp_ge (off := 90) (by decide) (by decide) (by decide +kernel))))
theorem xb210_4 (hC : z_HC l G d z_tb C) : z_SB "QuotaPeers$Message" prog_6_method_15_code 8 false d G l C ((Option.some Jvm.ClassFile.FieldType.int)) xp210 38 xB210_4.1 xB210_4.2 := sb_cons (n := 1) hC.1 (tz_ldA _) (so_aload_n 0 (by decide +kernel)) (sb_cons (n := 2) hC.1 (tz_ldI _) (so_iload 4 (by decide +kernel)) (sb_cons (n := 1) hC.1 (tz_cI _) (so_iconst (5) (5) (by decide +kernel) (by decide +kernel)) (sb_cons (n := 1) hC.1 (tz_ii _) (so_iadd (by decide +kernel)) (sb_cons (n := 1) hC.1 (tz_cI _) (so_iconst (3) (3) (by decide +kernel) (by decide +kernel)) (sb_cons (n := 3) hC.1 (tz_crV _ _ _) (xc_197 hC w797 (by decide +kernel)) (sb_cons (n := 1) hC.1 (tz_l2i) (so_l2i (by decide +kernel)) (sb_cons (n := 2) hC.1 (tz_stI _) (so_istore 6 (by decide) (by decide +kernel)) (sb_cons (n := 1) hC.1 (tz_ldA _) (so_aload_n 0 (by decide +kernel)) (sb_cons (n := 3) hC.1 (tz_gR _ _) (xg_3_1 w209 (by decide +kernel)) (sb_cons (n := 2) hC.1 (tz_ldI _) (so_iload 4 (by decide +kernel)) (sb_cons (n := 1) hC.1 (tz_cI _) (so_iconst (4) (4) (by decide +kernel) (by decide +kernel)) (sb_cons (n := 1) hC.1 (tz_ii _) (so_iadd (by decide +kernel)) (sb_cons (n := 1) hC.1 (tz_aldI _) (so_baload (by decide +kernel)) (sb_cons (n := 3) hC.1 (tz_cI _) (so_sipush (128) (128) (by decide +kernel) (by decide +kernel)) (sb_cons (n := 1) hC.1 (tz_ii _) (so_iand (by decide +kernel)) (sb_nil (tz_if _ _ _ _ _) (st_if_eq (off := 8) (by decide) (by decide) (by decide +kernel))))))))))))))))))
theorem xb210_5 (hC : z_HC l G d z_tb C) : z_SB "QuotaPeers$Message" prog_6_method_15_code 8 false d G l C ((Option.some Jvm.ClassFile.FieldType.int)) xp210 66 xB210_5.1 xB210_5.2 := sb_cons (n := 2) hC.1 (tz_cI _) (so_bipush (12) (12) (by decide +kernel) (by decide +kernel)) (sb_nil (tz_goto _ _) (st_goto (off := 5) (by decide) (by decide +kernel)))
theorem xb210_6 (hC : z_HC l G d z_tb C) : z_SB "QuotaPeers$Message" prog_6_method_15_code 8 false d G l C ((Option.some Jvm.ClassFile.FieldType.int)) xp210 71 xB210_6.1 xB210_6.2 := sb_cons (n := 2) hC.1 (tz_cI _) (so_bipush (8) (8) (by decide +kernel) (by decide +kernel)) (sb_nil (tz_goto _ _) (st_fall (by decide)))
theorem xb210_7 (hC : z_HC l G d z_tb C) : z_SB "QuotaPeers$Message" prog_6_method_15_code 8 false d G l C ((Option.some Jvm.ClassFile.FieldType.int)) xp210 73 xB210_7.1 xB210_7.2 := sb_cons (n := 2) hC.1 (tz_stI _) (so_istore 7 (by decide) (by decide +kernel)) (sb_cons (n := 2) hC.1 (tz_ldI _) (so_iload 7 (by decide +kernel)) (sb_cons (n := 2) hC.1 (tz_cI _) (so_bipush (8) (8) (by decide +kernel) (by decide +kernel)) (sb_nil (tz_icmp _ _ _ _ _) (st_icmp_ne (off := 30) (by decide) (by decide) (by decide +kernel)))))
theorem xb210_8 (hC : z_HC l G d z_tb C) : z_SB "QuotaPeers$Message" prog_6_method_15_code 8 false d G l C ((Option.some Jvm.ClassFile.FieldType.int)) xp210 82 xB210_8.1 xB210_8.2 := sb_cons (n := 1) hC.1 (tz_ldA _) (so_aload_n 0 (by decide +kernel)) (sb_cons (n := 2) hC.1 (tz_ldI _) (so_iload 4 (by decide +kernel)) (sb_cons (n := 1) hC.1 (tz_cI _) (so_iconst (4) (4) (by decide +kernel) (by decide +kernel)) (sb_cons (n := 3) hC.1 (tz_crV _ _ _) (xc_197 hC w797 (by decide +kernel)) (sb_cons (n := 1) hC.1 (tz_l2i) (so_l2i (by decide +kernel)) (sb_cons (n := 1) hC.1 (tz_ldI _) (so_iload_n 2 (by decide +kernel)) (sb_nil (tz_icmp _ _ _ _ _) (st_icmp_ne (off := 18) (by decide) (by decide) (by decide +kernel))))))))
theorem xb210_9 (hC : z_HC l G d z_tb C) : z_SB "QuotaPeers$Message" prog_6_method_15_code 8 false d G l C ((Option.some Jvm.ClassFile.FieldType.int)) xp210 94 xB210_9.1 xB210_9.2 := sb_cons (n := 1) hC.1 (tz_ldA _) (so_aload_n 0 (by decide +kernel)) (sb_cons (n := 2) hC.1 (tz_ldI _) (so_iload 6 (by decide +kernel)) (sb_cons (n := 2) hC.1 (tz_ldI _) (so_iload 7 (by decide +kernel)) (sb_cons (n := 1) hC.1 (tz_ii _) (so_isub (by decide +kernel)) (sb_cons (n := 3) hC.1 (tz_pI _ _) (xp_3_14 w234 (by decide +kernel)) (sb_cons (n := 2) hC.1 (tz_ldI _) (so_iload 4 (by decide +kernel)) (sb_cons (n := 2) hC.1 (tz_ldI _) (so_iload 7 (by decide +kernel)) (sb_cons (n := 1) hC.1 (tz_ii _) (so_iadd (by decide +kernel)) (sb_nil (tz_iret) (st_iret rfl (by decide +kernel))))))))))
theorem xb210_10 (hC : z_HC l G d z_tb C) : z_SB "QuotaPeers$Message" prog_6_method_15_code 8 false d G l C ((Option.some Jvm.ClassFile.FieldType.int)) xp210 109 xB210_10.1 xB210_10.2 := sb_cons (n := 2) hC.1 (tz_ldI _) (so_iload 4 (by decide +kernel)) (sb_cons (n := 2) hC.1 (tz_ldI _) (so_iload 6 (by decide +kernel)) (sb_cons (n := 1) hC.1 (tz_cI _) (so_iconst (3) (3) (by decide +kernel) (by decide +kernel)) (sb_cons (n := 1) hC.1 (tz_ii _) (so_iadd (by decide +kernel)) (sb_cons (n := 1) hC.1 (tz_cI _) (so_iconst (4) (4) (by decide +kernel) (by decide +kernel)) (sb_cons (n := 1) hC.1 (tz_div) (so_idiv (by decide +kernel)) (sb_cons (n := 1) hC.1 (tz_cI _) (so_iconst (4) (4) (by decide +kernel) (by decide +kernel)) (sb_cons (n := 1) hC.1 (tz_ii _) (so_imul (by decide +kernel)) (sb_cons (n := 1) hC.1 (tz_ii _) (so_iadd (by decide +kernel)) (sb_cons (n := 2) hC.1 (tz_stI _) (so_istore 4 (by decide) (by decide +kernel)) (sb_nil (tz_goto _ _) (st_goto (off := -91) (by decide) (by decide +kernel))))))))))))
theorem xb210_11 (hC : z_HC l G d z_tb C) : z_SB "QuotaPeers$Message" prog_6_method_15_code 8 false d G l C ((Option.some Jvm.ClassFile.FieldType.int)) xp210 125 xB210_11.1 xB210_11.2 := sb_cons (n := 1) hC.1 (tz_cI _) (so_iconst (-1) (-1) (by decide +kernel) (by decide +kernel)) (sb_nil (tz_iret) (st_iret rfl (by decide +kernel)))
theorem xm210 (hC : z_HC l G d z_tb C) : z_SM "QuotaPeers$Message" prog_6_method_15_code 8 false d G l C ((Option.some Jvm.ClassFile.FieldType.int)) xp210 xP210 := by
  intro b
  match b with
  | 0 => exact xb210_0 hC
  | 1 => exact xb210_1 hC
  | 2 => exact xb210_2 hC
  | 3 => exact xb210_3 hC
  | 4 => exact xb210_4 hC
  | 5 => exact xb210_5 hC
  | 6 => exact xb210_6 hC
  | 7 => exact xb210_7 hC
  | 8 => exact xb210_8 hC
  | 9 => exact xb210_9 hC
  | 10 => exact xb210_10 hC
  | 11 => exact xb210_11 hC
  | _ + 12 => exact sb_dead
end
/-! QuotaPeers$Message.rules()LQuotaPeers$Command; -/
def xB211_0 : List z_Op × z_Tm := ([zo_ldA 0, zo_crV 198 0 3], zt_if (fun x => x = 0) 1 [false, false] 2 [true, false])
def xB211_1 : List z_Op × z_Tm := ([zo_stC 4], zt_aret)
def xB211_2 : List z_Op × z_Tm := ([zo_cI (0), zo_stI 1], zt_goto 3 [true, true])
def xB211_3 : List z_Op × z_Tm := ([zo_ldI 1, zo_cI (4)], zt_icmp (fun x y => y ≤ x) 7 [false, false] 4 [true, true])
def xB211_4 : List z_Op × z_Tm := ([zo_ldA 0, zo_gR 3 0, zo_ldI 1, zo_aldR, zo_gC z_codes, zo_ldA 0, zo_gI 3 4], zt_icmp (fun x y => x = y) 5 [true, true] 6 [true, true])
def xB211_5 : List z_Op × z_Tm := ([zo_ldA 0, zo_gR 3 0, zo_ldI 1, zo_aldR], zt_aret)
def xB211_6 : List z_Op × z_Tm := ([zo_inc 1 (1)], zt_goto 3 [true, true])
def xB211_7 : List z_Op × z_Tm := ([zo_null], zt_aret)
def xp211 : Nat → Nat := fun b => ([0, 7, 11, 13, 18, 34, 41, 47] : List Nat).getD b 0
def xP211 : z_M := fun b => ([xB211_0, xB211_1, xB211_2, xB211_3, xB211_4, xB211_5, xB211_6, xB211_7] : List (List z_Op × z_Tm)).getD b z_dead
section
variable {d : Nat} {G : z_G} {l : Launch} {C : z_O}
theorem xb211_0 (hC : z_HC l G d z_tb C) : z_SB "QuotaPeers$Message" prog_6_method_16_code 2 false d G l C ((Option.some (Jvm.ClassFile.FieldType.object "QuotaPeers$Command"))) xp211 0 xB211_0.1 xB211_0.2 := sb_cons (n := 1) hC.1 (tz_ldA _) (so_aload_n 0 (by decide +kernel)) (sb_cons (n := 3) hC.1 (tz_crV _ _ _) (xc_198 hC w805 (by decide +kernel)) (sb_nil (tz_if _ _ _ _ _) (st_if_ne (off := 7) (by decide) (by decide) (by decide +kernel))))
theorem xb211_1 (hC : z_HC l G d z_tb C) : z_SB "QuotaPeers$Message" prog_6_method_16_code 2 false d G l C ((Option.some (Jvm.ClassFile.FieldType.object "QuotaPeers$Command"))) xp211 7 xB211_1.1 xB211_1.2 := sb_cons (n := 3) hC.1 (tz_stC _) (so_ANS w809 (by decide +kernel)) (sb_nil (tz_aret) (st_aret rfl (by decide +kernel)))
theorem xb211_2 (hC : z_HC l G d z_tb C) : z_SB "QuotaPeers$Message" prog_6_method_16_code 2 false d G l C ((Option.some (Jvm.ClassFile.FieldType.object "QuotaPeers$Command"))) xp211 11 xB211_2.1 xB211_2.2 := sb_cons (n := 1) hC.1 (tz_cI _) (so_iconst (0) (0) (by decide +kernel) (by decide +kernel)) (sb_cons (n := 1) hC.1 (tz_stI _) (so_istore_n 1 (by decide) (by decide +kernel)) (sb_nil (tz_goto _ _) (st_fall (by decide))))
theorem xb211_3 (hC : z_HC l G d z_tb C) : z_SB "QuotaPeers$Message" prog_6_method_16_code 2 false d G l C ((Option.some (Jvm.ClassFile.FieldType.object "QuotaPeers$Command"))) xp211 13 xB211_3.1 xB211_3.2 := sb_cons (n := 1) hC.1 (tz_ldI _) (so_iload_n 1 (by decide +kernel)) (sb_cons (n := 1) hC.1 (tz_cI _) (so_iconst (4) (4) (by decide +kernel) (by decide +kernel)) (sb_nil (tz_icmp _ _ _ _ _) (st_icmp_ge (off := 32) (by decide) (by decide) (by decide +kernel))))
theorem xb211_4 (hC : z_HC l G d z_tb C) : z_SB "QuotaPeers$Message" prog_6_method_16_code 2 false d G l C ((Option.some (Jvm.ClassFile.FieldType.object "QuotaPeers$Command"))) xp211 18 xB211_4.1 xB211_4.2 := sb_cons (n := 1) hC.1 (tz_ldA _) (so_aload_n 0 (by decide +kernel)) (sb_cons (n := 3) hC.1 (tz_gR _ _) (xg_3_0 w208 (by decide +kernel)) (sb_cons (n := 1) hC.1 (tz_ldI _) (so_iload_n 1 (by decide +kernel)) (sb_cons (n := 1) hC.1 (tz_aldR) (so_aaload (by decide +kernel)) (sb_cons (n := 3) hC.1 (tz_gC _) (so_Ccode w1846 (by decide +kernel)) (sb_cons (n := 1) hC.1 (tz_ldA _) (so_aload_n 0 (by decide +kernel)) (sb_cons (n := 3) hC.1 (tz_gI _ _) (xg_3_4 w214 (by decide +kernel)) (sb_nil (tz_icmp _ _ _ _ _) (st_icmp_ne (off := 10) (by decide) (by decide) (by decide +kernel)))))))))
theorem xb211_5 (hC : z_HC l G d z_tb C) : z_SB "QuotaPeers$Message" prog_6_method_16_code 2 false d G l C ((Option.some (Jvm.ClassFile.FieldType.object "QuotaPeers$Command"))) xp211 34 xB211_5.1 xB211_5.2 := sb_cons (n := 1) hC.1 (tz_ldA _) (so_aload_n 0 (by decide +kernel)) (sb_cons (n := 3) hC.1 (tz_gR _ _) (xg_3_0 w208 (by decide +kernel)) (sb_cons (n := 1) hC.1 (tz_ldI _) (so_iload_n 1 (by decide +kernel)) (sb_cons (n := 1) hC.1 (tz_aldR) (so_aaload (by decide +kernel)) (sb_nil (tz_aret) (st_aret rfl (by decide +kernel))))))
theorem xb211_6 (hC : z_HC l G d z_tb C) : z_SB "QuotaPeers$Message" prog_6_method_16_code 2 false d G l C ((Option.some (Jvm.ClassFile.FieldType.object "QuotaPeers$Command"))) xp211 41 xB211_6.1 xB211_6.2 := sb_cons (n := 3) hC.1 (tz_inc _ _) (so_iinc 1 (1) (1) (by decide +kernel) (by decide) (by decide +kernel)) (sb_nil (tz_goto _ _) (st_goto (off := -31) (by decide) (by decide +kernel)))
theorem xb211_7 (hC : z_HC l G d z_tb C) : z_SB "QuotaPeers$Message" prog_6_method_16_code 2 false d G l C ((Option.some (Jvm.ClassFile.FieldType.object "QuotaPeers$Command"))) xp211 47 xB211_7.1 xB211_7.2 := sb_cons (n := 1) hC.1 (tz_null) (so_null (by decide +kernel)) (sb_nil (tz_aret) (st_aret rfl (by decide +kernel)))
theorem xm211 (hC : z_HC l G d z_tb C) : z_SM "QuotaPeers$Message" prog_6_method_16_code 2 false d G l C ((Option.some (Jvm.ClassFile.FieldType.object "QuotaPeers$Command"))) xp211 xP211 := by
  intro b
  match b with
  | 0 => exact xb211_0 hC
  | 1 => exact xb211_1 hC
  | 2 => exact xb211_2 hC
  | 3 => exact xb211_3 hC
  | 4 => exact xb211_4 hC
  | 5 => exact xb211_5 hC
  | 6 => exact xb211_6 hC
  | 7 => exact xb211_7 hC
  | _ + 8 => exact sb_dead
end
/-! QuotaPeers$Message.isHeadWrong(LQuotaPeers$Command;)Z -/
def xB212_0 : List z_Op × z_Tm := ([zo_ldA 0, zo_gR 3 1, zo_cI (0), zo_aldI 17, zo_cI (1)], zt_icmp (fun x y => x = y) 2 [true, true] 1 [true, false])
def xB212_1 : List z_Op × z_Tm := ([zo_ldA 0, zo_cI (5011), zo_cI (0), zo_crV 201 2 3], zt_zret)
def xB212_2 : List z_Op × z_Tm := ([zo_ldA 1], zt_null 3 [true, false] 4 [true, true])
def xB212_3 : List z_Op × z_Tm := ([zo_ldA 0, zo_cI (3001), zo_cI (0), zo_crV 201 2 3], zt_zret)
def xB212_4 : List z_Op × z_Tm := ([zo_ldA 0, zo_crV 198 0 3], zt_if (fun x => x = 0) 7 [true, false] 5 [true, true])
def xB212_5 : List z_Op × z_Tm := ([zo_ldA 0, zo_gI 3 5, zo_ldA 1, zo_gC z_apps], zt_icmp (fun x y => x = y) 7 [true, false] 6 [true, false])
def xB212_6 : List z_Op × z_Tm := ([zo_ldA 0, zo_cI (3007), zo_cI (0), zo_crV 201 2 3], zt_zret)
def xB212_7 : List z_Op × z_Tm := ([zo_ldA 0, zo_gI 3 3, zo_cI (15), zo_ii ((· &&& ·))], zt_if (fun x => x = 0) 8 [true, false] 10 [true, false])
def xB212_8 : List z_Op × z_Tm := ([zo_ldA 0, zo_crV 198 0 3], zt_if (fun x => x = 0) 12 [false, false] 9 [true, false])
def xB212_9 : List z_Op × z_Tm := ([zo_ldA 0, zo_gI 3 3, zo_cI (32), zo_ii ((· &&& ·))], zt_if (fun x => x = 0) 12 [false, false] 10 [true, false])
def xB212_10 : List z_Op × z_Tm := ([zo_ldA 0, zo_cI (3008), zo_cI (0), zo_crV 201 2 3], zt_if (fun x => x = 0) 12 [false, false] 11 [false, false])
def xB212_11 : List z_Op × z_Tm := ([zo_cI (1)], zt_goto 13 [false, false])
def xB212_12 : List z_Op × z_Tm := ([zo_cI (0)], zt_goto 13 [false, false])
def xB212_13 : List z_Op × z_Tm := ([], zt_zret)
def xp212 : Nat → Nat := fun b => ([0, 10, 19, 23, 32, 39, 50, 59, 69, 76, 86, 97, 101, 102] : List Nat).getD b 0
def xP212 : z_M := fun b => ([xB212_0, xB212_1, xB212_2, xB212_3, xB212_4, xB212_5, xB212_6, xB212_7, xB212_8, xB212_9, xB212_10, xB212_11, xB212_12, xB212_13] : List (List z_Op × z_Tm)).getD b z_dead
section
variable {d : Nat} {G : z_G} {l : Launch} {C : z_O}
theorem xb212_0 (hC : z_HC l G d z_tb C) : z_SB "QuotaPeers$Message" prog_6_method_17_code 2 false d G l C ((Option.some Jvm.ClassFile.FieldType.boolean)) xp212 0 xB212_0.1 xB212_0.2 := sb_cons (n := 1) hC.1 (tz_ldA _) (so_aload_n 0 (by decide +kernel)) (sb_cons (n := 3) hC.1 (tz_gR _ _) (xg_3_1 w209 (by decide +kernel)) (sb_cons (n := 1) hC.1 (tz_cI _) (so_iconst (0) (0) (by decide +kernel) (by decide +kernel)) (sb_cons (n := 1) hC.1 (tz_aldI _) (so_baload (by decide +kernel)) (sb_cons (n := 1) hC.1 (tz_cI _) (so_iconst (1) (1) (by decide +kernel) (by decide +kernel)) (sb_nil (tz_icmp _ _ _ _ _) (st_icmp_eq (off := 12) (by decide) (by decide) (by decide +kernel)))))))
theorem xb212_1 (hC : z_HC l G d z_tb C) : z_SB "QuotaPeers$Message" prog_6_method_17_code 2 false d G l C ((Option.some Jvm.ClassFile.FieldType.boolean)) xp212 10 xB212_1.1 xB212_1.2 := sb_cons (n := 1) hC.1 (tz_ldA _) (so_aload_n 0 (by decide +kernel)) (sb_cons (n := 3) hC.1 (tz_cI _) (so_sipush (5011) (5011) (by decide +kernel) (by decide +kernel)) (sb_cons (n := 1) hC.1 (tz_cI _) (so_iconst (0) (0) (by decide +kernel) (by decide +kernel)) (sb_cons (n := 3) hC.1 (tz_crV _ _ _) (xc_201 hC w815 (by decide +kernel)) (sb_nil (tz_zret) (st_zret rfl (by decide +kernel))))))
theorem xb212_2 (hC : z_HC l G d z_tb C) : z_SB "QuotaPeers$Message" prog_6_method_17_code 2 false d G l C ((Option.some Jvm.ClassFile.FieldType.boolean)) xp212 19 xB212_2.1 xB212_2.2 := sb_cons (n := 1) hC.1 (tz_ldA _) (so_aload_n 1 (by decide +kernel)) (sb_nil (tz_nul _ _ _ _) (st_ifnonnull (off := 12) (by decide) (by decide) (by decide +kernel)))
theorem xb212_3 (hC : z_HC l G d z_tb C) : z_SB "QuotaPeers$Message" prog_6_method_17_code 2 false d G l C ((Option.some Jvm.ClassFile.FieldType.boolean)) xp212 23 xB212_3.1 xB212_3.2 := sb_cons (n := 1) hC.1 (tz_ldA _) (so_aload_n 0 (by decide +kernel)) (sb_cons (n := 3) hC.1 (tz_cI _) (so_sipush (3001) (3001) (by decide +kernel) (by decide +kernel)) (sb_cons (n := 1) hC.1 (tz_cI _) (so_iconst (0) (0) (by decide +kernel) (by decide +kernel)) (sb_cons (n := 3) hC.1 (tz_crV _ _ _) (xc_201 hC w815 (by decide +kernel)) (sb_nil (tz_zret) (st_zret rfl (by decide +kernel))))))
theorem xb212_4 (hC : z_HC l G d z_tb C) : z_SB "QuotaPeers$Message" prog_6_method_17_code 2 false d G l C ((Option.some Jvm.ClassFile.FieldType.boolean)) xp212 32 xB212_4.1 xB212_4.2 := sb_cons (n := 1) hC.1 (tz_ldA _) (so_aload_n 0 (by decide +kernel)) (sb_cons (n := 3) hC.1 (tz_crV _ _ _) (xc_198 hC w805 (by decide +kernel)) (sb_nil (tz_if _ _ _ _ _) (st_if_eq (off := 23) (by decide) (by decide) (by decide +kernel))))
theorem xb212_5 (hC : z_HC l G d z_tb C) : z_SB "QuotaPeers$Message" prog_6_method_17_code 2 false d G l C ((Option.some Jvm.ClassFile.FieldType.boolean)) xp212 39 xB212_5.1 xB212_5.2 := sb_cons (n := 1) hC.1 (tz_ldA _) (so_aload_n 0 (by decide +kernel)) (sb_cons (n := 3) hC.1 (tz_gI _ _) (xg_3_5 w217 (by decide +kernel)) (sb_cons (n := 1) hC.1 (tz_ldA _) (so_aload_n 1 (by decide +kernel)) (sb_cons (n := 3) hC.1 (tz_gC _) (so_Capp w1847 (by decide +kernel)) (sb_nil (tz_icmp _ _ _ _ _) (st_icmp_eq (off := 12) (by decide) (by decide) (by decide +kernel))))))
theorem xb212_6 (hC : z_HC l G d z_tb C) : z_SB "QuotaPeers$Message" prog_6_method_17_code 2 false d G l C ((Option.some Jvm.ClassFile.FieldType.boolean)) xp212 50 xB212_6.1 xB212_6.2 := sb_cons (n := 1) hC.1 (tz_ldA _) (so_aload_n 0 (by decide +kernel)) (sb_cons (n := 3) hC.1 (tz_cI _) (so_sipush (3007) (3007) (by decide +kernel) (by decide +kernel)) (sb_cons (n := 1) hC.1 (tz_cI _) (so_iconst (0) (0) (by decide +kernel) (by decide +kernel)) (sb_cons (n := 3) hC.1 (tz_crV _ _ _) (xc_201 hC w815 (by decide +kernel)) (sb_nil (tz_zret) (st_zret rfl (by decide +kernel))))))
theorem xb212_7 (hC : z_HC l G d z_tb C) : z_SB "QuotaPeers$Message" prog_6_method_17_code 2 false d G l C ((Option.some Jvm.ClassFile.FieldType.boolean)) xp212 59 xB212_7.1 xB212_7.2 := sb_cons (n := 1) hC.1 (tz_ldA _) (so_aload_n 0 (by decide +kernel)) (sb_cons (n := 3) hC.1 (tz_gI _ _) (xg_3_3 w212 (by decide +kernel)) (sb_cons (n := 2) hC.1 (tz_cI _) (so_bipush (15) (15) (by decide +kernel) (by decide +kernel)) (sb_cons (n := 1) hC.1 (tz_ii _) (so_iand (by decide +kernel)) (sb_nil (tz_if _ _ _ _ _) (st_if_ne (off := 20) (by decide) (by decide) (by decide +kernel))))))
theorem xb212_8 (hC : z_HC l G d z_tb C) : z_SB "QuotaPeers$Message" prog_6_method_17_code 2 false d G l C ((Option.some Jvm.ClassFile.FieldType.boolean)) xp212 69 xB212_8.1 xB212_8.2 := sb_cons (n := 1) hC.1 (tz_ldA _) (so_aload_n 0 (by decide +kernel)) (sb_cons (n := 3) hC.1 (tz_crV _ _ _) (xc_198 hC w805 (by decide +kernel)) (sb_nil (tz_if _ _ _ _ _) (st_if_eq (off := 28) (by decide) (by decide) (by decide +kernel))))
theorem xb212_9 (hC : z_HC l G d z_tb C) : z_SB "QuotaPeers$Message" prog_6_method_17_code 2 false d G l C ((Option.some Jvm.ClassFile.FieldType.boolean)) xp212 76 xB212_9.1 xB212_9.2 := sb_cons (n := 1) hC.1 (tz_ldA _) (so_aload_n 0 (by decide +kernel)) (sb_cons (n := 3) hC.1 (tz_gI _ _) (xg_3_3 w212 (by decide +kernel)) (sb_cons (n := 2) hC.1 (tz_cI _) (so_bipush (32) (32) (by decide +kernel) (by decide +kernel)) (sb_cons (n := 1) hC.1 (tz_ii _) (so_iand (by decide +kernel)) (sb_nil (tz_if _ _ _ _ _) (st_if_eq (off := 18) (by decide) (by decide) (by decide +kernel))))))
theorem xb212_10 (hC : z_HC l G d z_tb C) : z_SB "QuotaPeers$Message" prog_6_method_17_code 2 false d G l C ((Option.some Jvm.ClassFile.FieldType.boolean)) xp212 86 xB212_10.1 xB212_10.2 := sb_cons (n := 1) hC.1 (tz_ldA _) (so_aload_n 0 (by decide +kernel)) (sb_cons (n := 3) hC.1 (tz_cI _) (so_sipush (3008) (3008) (by decide +kernel) (by decide +kernel)) (sb_cons (n := 1) hC.1 (tz_cI _) (so_iconst (0) (0) (by decide +kernel) (by decide +kernel)) (sb_cons (n := 3) hC.1 (tz_crV _ _ _) (xc_201 hC w815 (by decide +kernel)) (sb_nil (tz_if _ _ _ _ _) (st_if_eq (off := 7) (by decide) (by decide) (by decide +kernel))))))
theorem xb212_11 (hC : z_HC l G d z_tb C) : z_SB "QuotaPeers$Message" prog_6_method_17_code 2 false d G l C ((Option.some Jvm.ClassFile.FieldType.boolean)) xp212 97 xB212_11.1 xB212_11.2 := sb_cons (n := 1) hC.1 (tz_cI _) (so_iconst (1) (1) (by decide +kernel) (by decide +kernel)) (sb_nil (tz_goto _ _) (st_goto (off := 4) (by decide) (by decide +kernel)))
theorem xb212_12 (hC : z_HC l G d z_tb C) : z_SB "QuotaPeers$Message" prog_6_method_17_code 2 false d G l C ((Option.some Jvm.ClassFile.FieldType.boolean)) xp212 101 xB212_12.1 xB212_12.2 := sb_cons (n := 1) hC.1 (tz_cI _) (so_iconst (0) (0) (by decide +kernel) (by decide +kernel)) (sb_nil (tz_goto _ _) (st_fall (by decide)))
theorem xb212_13 (hC : z_HC l G d z_tb C) : z_SB "QuotaPeers$Message" prog_6_method_17_code 2 false d G l C ((Option.some Jvm.ClassFile.FieldType.boolean)) xp212 102 xB212_13.1 xB212_13.2 := sb_nil (tz_zret) (st_zret rfl (by decide +kernel))
theorem xm212 (hC : z_HC l G d z_tb C) : z_SM "QuotaPeers$Message" prog_6_method_17_code 2 false d G l C ((Option.some Jvm.ClassFile.FieldType.boolean)) xp212 xP212 := by
  intro b
  match b with
  | 0 => exact xb212_0 hC
  | 1 => exact xb212_1 hC
  | 2 => exact xb212_2 hC
  | 3 => exact xb212_3 hC
  | 4 => exact xb212_4 hC
  | 5 => exact xb212_5 hC
  | 6 => exact xb212_6 hC
  | 7 => exact xb212_7 hC
  | 8 => exact xb212_8 hC
  | 9 => exact xb212_9 hC
  | 10 => exact xb212_10 hC
  | 11 => exact xb212_11 hC
  | 12 => exact xb212_12 hC
  | 13 => exact xb212_13 hC
  | _ + 14 => exact sb_dead
end
/-! QuotaPeers$Message.isLacking(LQuotaPeers$Command;)Z -/
def xB213_0 : List z_Op × z_Tm := ([zo_ldA 1, zo_gW, zo_stA 2, zo_ldA 2, zo_lenW, zo_stI 3, zo_cI (0), zo_stI 4], zt_goto 1 [true, true, true, true, true, false])
def xB213_1 : List z_Op × z_Tm := ([zo_ldI 4, zo_ldI 3], zt_icmp (fun x y => y ≤ x) 6 [true, true, false, false, false, false] 2 [true, true, true, true, true, false])
def xB213_2 : List z_Op × z_Tm := ([zo_ldA 2, zo_ldI 4, zo_aldW, zo_stI 5, zo_ldI 5], zt_if (fun x => x = 0) 5 [true, true, true, true, true, false] 3 [true, true, true, true, true, true])
def xB213_3 : List z_Op × z_Tm := ([zo_ldA 0, zo_ldI 5, zo_crV 206 1 3], zt_if (fun x => x = 0) 4 [true, false, false, false, false, true] 5 [true, true, true, true, true, false])
def xB213_4 : List z_Op × z_Tm := ([zo_ldA 0, zo_cI (5005), zo_ldI 5, zo_crV 201 2 3], zt_zret)
def xB213_5 : List z_Op × z_Tm := ([zo_inc 4 (1)], zt_goto 1 [true, true, true, true, true, false])
def xB213_6 : List z_Op × z_Tm := ([zo_ldA 1, zo_gW, zo_stA 2, zo_ldA 2, zo_lenW, zo_stI 3, zo_cI (0), zo_stI 4], zt_goto 7 [true, false, true, true, true, false])
def xB213_7 : List z_Op × z_Tm := ([zo_ldI 4, zo_ldI 3], zt_icmp (fun x y => y ≤ x) 14 [false, false, false, false, false, false] 8 [true, false, true, true, true, false])
def xB213_8 : List z_Op × z_Tm := ([zo_ldA 2, zo_ldI 4, zo_aldW, zo_stI 5, zo_ldA 0, zo_crV 198 0 3], zt_if (fun x => x = 0) 13 [true, false, true, true, true, false] 9 [true, false, true, true, true, true])
def xB213_9 : List z_Op × z_Tm := ([zo_ldI 5], zt_if (fun x => x = 0) 13 [true, false, true, true, true, false] 10 [true, false, true, true, true, true])
def xB213_10 : List z_Op × z_Tm := ([zo_ldI 5, zo_cI (258)], zt_icmp (fun x y => x = y) 13 [true, false, true, true, true, false] 11 [true, false, true, true, true, true])
def xB213_11 : List z_Op × z_Tm := ([zo_ldA 0, zo_ldI 5, zo_crV 204 1 3, zo_cI (1)], zt_icmp (fun x y => x ≤ y) 13 [true, false, true, true, true, false] 12 [true, false, false, false, false, true])
def xB213_12 : List z_Op × z_Tm := ([zo_ldA 0, zo_cI (5009), zo_ldI 5, zo_crV 201 2 3], zt_zret)
def xB213_13 : List z_Op × z_Tm := ([zo_inc 4 (1)], zt_goto 7 [true, false, true, true, true, false])
def xB213_14 : List z_Op × z_Tm := ([zo_cI (0)], zt_zret)
def xp213 : Nat → Nat := fun b => ([0, 11, 17, 28, 37, 47, 53, 64, 70, 83, 88, 96, 106, 116, 122] : List Nat).getD b 0
def xP213 : z_M := fun b => ([xB213_0, xB213_1, xB213_2, xB213_3, xB213_4, xB213_5, xB213_6, xB213_7, xB213_8, xB213_9, xB213_10, xB213_11, xB213_12, xB213_13, xB213_14] : List (List z_Op × z_Tm)).getD b z_dead
section
variable {d : Nat} {G : z_G} {l : Launch} {C : z_O}
theorem xb213_0 (hC : z_HC l G d z_tb C) : z_SB "QuotaPeers$Message" prog_6_method_18_code 6 false d G l C ((Option.some Jvm.ClassFile.FieldType.boolean)) xp213 0 xB213_0.1 xB213_0.2 := sb_cons (n := 1) hC.1 (tz_ldA _) (so_aload_n 1 (by decide +kernel)) (sb_cons (n := 3) hC.1 (tz_gW) (so_Cwants w1848 (by decide +kernel)) (sb_cons (n := 1) hC.1 (tz_stA _) (so_astore_n 2 (by decide) (by decide +kernel)) (sb_cons (n := 1) hC.1 (tz_ldA _) (so_aload_n 2 (by decide +kernel)) (sb_cons (n := 1) hC.1 (tz_lenW) (so_lenW (by decide +kernel)) (sb_cons (n := 1) hC.1 (tz_stI _) (so_istore_n 3 (by decide) (by decide +kernel)) (sb_cons (n := 1) hC.1 (tz_cI _) (so_iconst (0) (0) (by decide +kernel) (by decide +kernel)) (sb_cons (n := 2) hC.1 (tz_stI _) (so_istore 4 (by decide) (by decide +kernel)) (sb_nil (tz_goto _ _) (st_fall (by decide))))))))))
theorem xb213_1 (hC : z_HC l G d z_tb C) : z_SB "QuotaPeers$Message" prog_6_method_18_code 6 false d G l C ((Option.some Jvm.ClassFile.FieldType.boolean)) xp213 11 xB213_1.1 xB213_1.2 := sb_cons (n := 2) hC.1 (tz_ldI _) (so_iload 4 (by decide +kernel)) (sb_cons (n := 1) hC.1 (tz_ldI _) (so_iload_n 3 (by decide +kernel)) (sb_nil (tz_icmp _ _ _ _ _) (st_icmp_ge (off := 39) (by decide) (by decide) (by decide +kernel))))
theorem xb213_2 (hC : z_HC l G d z_tb C) : z_SB "QuotaPeers$Message" prog_6_method_18_code 6 false d G l C ((Option.some Jvm.ClassFile.FieldType.boolean)) xp213 17 xB213_2.1 xB213_2.2 := sb_cons (n := 1) hC.1 (tz_ldA _) (so_aload_n 2 (by decide +kernel)) (sb_cons (n := 2) hC.1 (tz_ldI _) (so_iload 4 (by decide +kernel)) (sb_cons (n := 1) hC.1 (tz_aldW) (so_aldW (by decide +kernel)) (sb_cons (n := 2) hC.1 (tz_stI _) (so_istore 5 (by decide) (by decide +kernel)) (sb_cons (n := 2) hC.1 (tz_ldI _) (so_iload 5 (by decide +kernel)) (sb_nil (tz_if _ _ _ _ _) (st_if_eq (off := 22) (by decide) (by decide) (by decide +kernel)))))))
theorem xb213_3 (hC : z_HC l G d z_tb C) : z_SB "QuotaPeers$Message" prog_6_method_18_code 6 false d G l C ((Option.some Jvm.ClassFile.FieldType.boolean)) xp213 28 xB213_3.1 xB213_3.2 := sb_cons (n := 1) hC.1 (tz_ldA _) (so_aload_n 0 (by decide +kernel)) (sb_cons (n := 2) hC.1 (tz_ldI _) (so_iload 5 (by decide +kernel)) (sb_cons (n := 3) hC.1 (tz_crV _ _ _) (xc_206 hC w836 (by decide +kernel)) (sb_nil (tz_if _ _ _ _ _) (st_if_ne (off := 13) (by decide) (by decide) (by decide +kernel)))))
theorem xb213_4 (hC : z_HC l G d z_tb C) : z_SB "QuotaPeers$Message" prog_6_method_18_code 6 false d G l C ((Option.some Jvm.ClassFile.FieldType.boolean)) xp213 37 xB213_4.1 xB213_4.2 := sb_cons (n := 1) hC.1 (tz_ldA _) (so_aload_n 0 (by decide +kernel)) (sb_cons (n := 3) hC.1 (tz_cI _) (so_sipush (5005) (5005) (by decide +kernel) (by decide +kernel)) (sb_cons (n := 2) hC.1 (tz_ldI _) (so_iload 5 (by decide +kernel)) (sb_cons (n := 3) hC.1 (tz_crV _ _ _) (xc_201 hC w815 (by decide +kernel)) (sb_nil (tz_zret) (st_zret rfl (by decide +kernel))))))
theorem xb213_5 (hC : z_HC l G d z_tb C) : z_SB "QuotaPeers$Message" prog_6_method_18_code 6 false d G l C ((Option.some Jvm.ClassFile.FieldType.boolean)) xp213 47 xB213_5.1 xB213_5.2 := sb_cons (n := 3) hC.1 (tz_inc _ _) (so_iinc 4 (1) (1) (by decide +kernel) (by decide) (by decide +kernel)) (sb_nil (tz_goto _ _) (st_goto (off := -39) (by decide) (by decide +kernel)))
theorem xb213_6 (hC : z_HC l G d z_tb C) : z_SB "QuotaPeers$Message" prog_6_method_18_code 6 false d G l C ((Option.some Jvm.ClassFile.FieldType.boolean)) xp213 53 xB213_6.1 xB213_6.2 := sb_cons (n := 1) hC.1 (tz_ldA _) (so_aload_n 1 (by decide +kernel)) (sb_cons (n := 3) hC.1 (tz_gW) (so_Cwants w1848 (by decide +kernel)) (sb_cons (n := 1) hC.1 (tz_stA _) (so_astore_n 2 (by decide) (by decide +kernel)) (sb_cons (n := 1) hC.1 (tz_ldA _) (so_aload_n 2 (by decide +kernel)) (sb_cons (n := 1) hC.1 (tz_lenW) (so_lenW (by decide +kernel)) (sb_cons (n := 1) hC.1 (tz_stI _) (so_istore_n 3 (by decide) (by decide +kernel)) (sb_cons (n := 1) hC.1 (tz_cI _) (so_iconst (0) (0) (by decide +kernel) (by decide +kernel)) (sb_cons (n := 2) hC.1 (tz_stI _) (so_istore 4 (by decide) (by decide +kernel)) (sb_nil (tz_goto _ _) (st_fall (by decide))))))))))
theorem xb213_7 (hC : z_HC l G d z_tb C) : z_SB "QuotaPeers$Message" prog_6_method_18_code 6 false d G l C ((Option.some Jvm.ClassFile.FieldType.boolean)) xp213 64 xB213_7.1 xB213_7.2 := sb_cons (n := 2) hC.1 (tz_ldI _) (so_iload 4 (by decide +kernel)) (sb_cons (n := 1) hC.1 (tz_ldI _) (so_iload_n 3 (by decide +kernel)) (sb_nil (tz_icmp _ _ _ _ _) (st_icmp_ge (off := 55) (by decide) (by decide) (by decide +kernel))))
theorem xb213_8 (hC : z_HC l G d z_tb C) : z_SB "QuotaPeers$Message" prog_6_method_18_code 6 false d G l C ((Option.some Jvm.ClassFile.FieldType.boolean)) xp213 70 xB213_8.1 xB213_8.2 := sb_cons (n := 1) hC.1 (tz_ldA _) (so_aload_n 2 (by decide +kernel)) (sb_cons (n := 2) hC.1 (tz_ldI _) (so_iload 4 (by decide +kernel)) (sb_cons (n := 1) hC.1 (tz_aldW) (so_aldW (by decide +kernel)) (sb_cons (n := 2) hC.1 (tz_stI _) (so_istore 5 (by decide) (by decide +kernel)) (sb_cons (n := 1) hC.1 (tz_ldA _) (so_aload_n 0 (by decide +kernel)) (sb_cons (n := 3) hC.1 (tz_crV _ _ _) (xc_198 hC w805 (by decide +kernel)) (sb_nil (tz_if _ _ _ _ _) (st_if_eq (off := 36) (by decide) (by decide) (by decide +kernel))))))))
theorem xb213_9 (hC : z_HC l G d z_tb C) : z_SB "QuotaPeers$Message" prog_6_method_18_code 6 false d G l C ((Option.some Jvm.ClassFile.FieldType.boolean)) xp213 83 xB213_9.1 xB213_9.2 := sb_cons (n := 2) hC.1 (tz_ldI _) (so_iload 5 (by decide +kernel)) (sb_nil (tz_if _ _ _ _ _) (st_if_eq (off := 31) (by decide) (by decide) (by decide +kernel)))
theorem xb213_10 (hC : z_HC l G d z_tb C) : z_SB "QuotaPeers$Message" prog_6_method_18_code 6 false d G l C ((Option.some Jvm.ClassFile.FieldType.boolean)) xp213 88 xB213_10.1 xB213_10.2 := sb_cons (n := 2) hC.1 (tz_ldI _) (so_iload 5 (by decide +kernel)) (sb_cons (n := 3) hC.1 (tz_cI _) (so_sipush (258) (258) (by decide +kernel) (by decide +kernel)) (sb_nil (tz_icmp _ _ _ _ _) (st_icmp_eq (off := 23) (by decide) (by decide) (by decide +kernel))))
theorem xb213_11 (hC : z_HC l G d z_tb C) : z_SB "QuotaPeers$Message" prog_6_method_18_code 6 false d G l C ((Option.some Jvm.ClassFile.FieldType.boolean)) xp213 96 xB213_11.1 xB213_11.2 := sb_cons (n := 1) hC.1 (tz_ldA _) (so_aload_n 0 (by decide +kernel)) (sb_cons (n := 2) hC.1 (tz_ldI _) (so_iload 5 (by decide +kernel)) (sb_cons (n := 3) hC.1 (tz_crV _ _ _) (xc_204 hC w844 (by decide +kernel)) (sb_cons (n := 1) hC.1 (tz_cI _) (so_iconst (1) (1) (by decide +kernel) (by decide +kernel)) (sb_nil (tz_icmp _ _ _ _ _) (st_icmp_le (off := 13) (by decide) (by decide) (by decide +kernel))))))
theorem xb213_12 (hC : z_HC l G d z_tb C) : z_SB "QuotaPeers$Message" prog_6_method_18_code 6 false d G l C ((Option.some Jvm.ClassFile.FieldType.boolean)) xp213 106 xB213_12.1 xB213_12.2 := sb_cons (n := 1) hC.1 (tz_ldA _) (so_aload_n 0 (by decide +kernel)) (sb_cons (n := 3) hC.1 (tz_cI _) (so_sipush (5009) (5009) (by decide +kernel) (by decide +kernel)) (sb_cons (n := 2) hC.1 (tz_ldI _) (so_iload 5 (by decide +kernel)) (sb_cons (n := 3) hC.1 (tz_crV _ _ _) (xc_201 hC w815 (by decide +kernel)) (sb_nil (tz_zret) (st_zret rfl (by decide +kernel))))))
theorem xb213_13 (hC : z_HC l G d z_tb C) : z_SB "QuotaPeers$Message" prog_6_method_18_code 6 false d G l C ((Option.some Jvm.ClassFile.FieldType.boolean)) xp213 116 xB213_13.1 xB213_13.2 := sb_cons (n := 3) hC.1 (tz_inc _ _) (so_iinc 4 (1) (1) (by decide +kernel) (by decide) (by decide +kernel)) (sb_nil (tz_goto _ _) (st_goto (off := -55) (by decide) (by decide +kernel)))
theorem xb213_14 (hC : z_HC l G d z_tb C) : z_SB "QuotaPeers$Message" prog_6_method_18_code 6 false d G l C ((Option.some Jvm.ClassFile.FieldType.boolean)) xp213 122 xB213_14.1 xB213_14.2 := sb_cons (n := 1) hC.1 (tz_cI _) (so_iconst (0) (0) (by decide +kernel) (by decide +kernel)) (sb_nil (tz_zret) (st_zret rfl (by decide +kernel)))
theorem xm213 (hC : z_HC l G d z_tb C) : z_SM "QuotaPeers$Message" prog_6_method_18_code 6 false d G l C ((Option.some Jvm.ClassFile.FieldType.boolean)) xp213 xP213 := by
  intro b
  match b with
  | 0 => exact xb213_0 hC
  | 1 => exact xb213_1 hC
  | 2 => exact xb213_2 hC
  | 3 => exact xb213_3 hC
  | 4 => exact xb213_4 hC
  | 5 => exact xb213_5 hC
  | 6 => exact xb213_6 hC
  | 7 => exact xb213_7 hC
  | 8 => exact xb213_8 hC
  | 9 => exact xb213_9 hC
  | 10 => exact xb213_10 hC
  | 11 => exact xb213_11 hC
  | 12 => exact xb213_12 hC
  | 13 => exact xb213_13 hC
  | 14 => exact xb213_14 hC
  | _ + 15 => exact sb_dead
end
/-! QuotaPeers$Message.read([BI)V -/
def xB214_0 : List z_Op × z_Tm := ([zo_ldA 0, zo_ldA 1, zo_pR 3 1, zo_ldA 0, zo_ldI 2, zo_pI 3 2, zo_ldA 0, zo_ldA 1, zo_cI (4), zo_aldI 17, zo_cI (255), zo_ii ((· &&& ·)), zo_pI 3 3, zo_ldA 0, zo_ldA 0, zo_cI (5), zo_cI (3), zo_crV 197 2 3, zo_l2i, zo_pI 3 4, zo_ldA 0, zo_ldA 0, zo_cI (8), zo_cI (4), zo_crV 197 2 3, zo_l2i, zo_pI 3 5, zo_ldA 0, zo_ldA 0, zo_cI (12), zo_cI (4), zo_crV 197 2 3, zo_l2i, zo_pI 3 6, zo_ldA 0, zo_ldA 0, zo_cI (16), zo_cI (4), zo_crV 197 2 3, zo_l2i, zo_pI 3 7, zo_ldA 0, zo_cI (0), zo_pI 3 11, zo_ldA 0, zo_cI (0), zo_pI 3 12, zo_ldA 0, zo_cI (0), zo_pI 3 13, zo_ldA 0, zo_crV 211 0 3, zo_stA 3, zo_ldA 0, zo_ldA 3, zo_crV 212 1 3], zt_if (fun x => x = 0) 1 [true, false, false, true, false] 3 [false, false, false, false, false])
def xB214_1 : List z_Op × z_Tm := ([zo_ldA 0, zo_cI (20), zo_ldA 0, zo_gI 3 2, zo_cI (0), zo_crS 202 4], zt_if (fun x => x = 0) 2 [true, false, false, true, false] 3 [false, false, false, false, false])
def xB214_2 : List z_Op × z_Tm := ([zo_ldA 0, zo_ldA 3, zo_crV 213 1 3], zt_if (fun x => x = 0) 4 [false, false, false, false, false] 3 [false, false, false, false, false])
def xB214_3 : List z_Op × z_Tm := ([zo_cI (1)], zt_goto 5 [false, false, false, false, false])
def xB214_4 : List z_Op × z_Tm := ([zo_cI (0)], zt_goto 5 [false, false, false, false, false])
def xB214_5 : List z_Op × z_Tm := ([zo_stI 4], zt_vret)
def xp214 : Nat → Nat := fun b => ([0, 96, 110, 118, 122, 123] : List Nat).getD b 0
def xP214 : z_M := fun b => ([xB214_0, xB214_1, xB214_2, xB214_3, xB214_4, xB214_5] : List (List z_Op × z_Tm)).getD b z_dead
section
variable {d : Nat} {G : z_G} {l : Launch} {C : z_O}
theorem xb214_0 (hC : z_HC l G d z_tb C) : z_SB "QuotaPeers$Message" prog_6_method_19_code 5 false d G l C ((Option.none : Option Jvm.ClassFile.FieldType)) xp214 0 xB214_0.1 xB214_0.2 := sb_cons (n := 1) hC.1 (tz_ldA _) (so_aload_n 0 (by decide +kernel)) (sb_cons (n := 1) hC.1 (tz_ldA _) (so_aload_n 1 (by decide +kernel)) (sb_cons (n := 3) hC.1 (tz_pR _ _) (xp_3_1 w209 (by decide +kernel)) (sb_cons (n := 1) hC.1 (tz_ldA _) (so_aload_n 0 (by decide +kernel)) (sb_cons (n := 1) hC.1 (tz_ldI _) (so_iload_n 2 (by decide +kernel)) (sb_cons (n := 3) hC.1 (tz_pI _ _) (xp_3_2 w211 (by decide +kernel)) (sb_cons (n := 1) hC.1 (tz_ldA _) (so_aload_n 0 (by decide +kernel)) (sb_cons (n := 1) hC.1 (tz_ldA _) (so_aload_n 1 (by decide +kernel)) (sb_cons (n := 1) hC.1 (tz_cI _) (so_iconst (4) (4) (by decide +kernel) (by decide +kernel)) (sb_cons (n := 1) hC.1 (tz_aldI _) (so_baload (by decide +kernel)) (sb_cons (n := 3) hC.1 (tz_cI _) (so_sipush (255) (255) (by decide +kernel) (by decide +kernel)) (sb_cons (n := 1) hC.1 (tz_ii _) (so_iand (by decide +kernel)) (sb_cons (n := 3) hC.1 (tz_pI _ _) (xp_3_3 w212 (by decide +kernel)) (sb_cons (n := 1) hC.1 (tz_ldA _) (so_aload_n 0 (by decide +kernel)) (sb_cons (n := 1) hC.1 (tz_ldA _) (so_aload_n 0 (by decide +kernel)) (sb_cons (n := 1) hC.1 (tz_cI _) (so_iconst (5) (5) (by decide +kernel) (by decide +kernel)) (sb_cons (n := 1) hC.1 (tz_cI _) (so_iconst (3) (3) (by decide +kernel) (by decide +kernel)) (sb_cons (n := 3) hC.1 (tz_crV _ _ _) (xc_197 hC w797 (by decide +kernel)) (sb_cons (n := 1) hC.1 (tz_l2i) (so_l2i (by decide +kernel)) (sb_cons (n := 3) hC.1 (tz_pI _ _) (xp_3_4 w214 (by decide +kernel)) (sb_cons (n := 1) hC.1 (tz_ldA _) (so_aload_n 0 (by decide +kernel)) (sb_cons (n := 1) hC.1 (tz_ldA _) (so_aload_n 0 (by decide +kernel)) (sb_cons (n := 2) hC.1 (tz_cI _) (so_bipush (8) (8) (by decide +kernel) (by decide +kernel)) (sb_cons (n := 1) hC.1 (tz_cI _) (so_iconst (4) (4) (by decide +kernel) (by decide +kernel)) (sb_cons (n := 3) hC.1 (tz_crV _ _ _) (xc_197 hC w797 (by decide +kernel)) (sb_cons (n := 1) hC.1 (tz_l2i) (so_l2i (by decide +kernel)) (sb_cons (n := 3) hC.1 (tz_pI _ _) (xp_3_5 w217 (by decide +kernel)) (sb_cons (n := 1) hC.1 (tz_ldA _) (so_aload_n 0 (by decide +kernel)) (sb_cons (n := 1) hC.1 (tz_ldA _) (so_aload_n 0 (by decide +kernel)) (sb_cons (n := 2) hC.1 (tz_cI _) (so_bipush (12) (12) (by decide +kernel) (by decide +kernel)) (sb_cons (n := 1) hC.1 (tz_cI _) (so_iconst (4) (4) (by decide +kernel) (by decide +kernel)) (sb_cons (n := 3) hC.1 (tz_crV _ _ _) (xc_197 hC w797 (by decide +kernel)) (sb_cons (n := 1) hC.1 (tz_l2i) (so_l2i (by decide +kernel)) (sb_cons (n := 3) hC.1 (tz_pI _ _) (xp_3_6 w219 (by decide +kernel)) (sb_cons (n := 1) hC.1 (tz_ldA _) (so_aload_n 0 (by decide +kernel)) (sb_cons (n := 1) hC.1 (tz_ldA _) (so_aload_n 0 (by decide +kernel)) (sb_cons (n := 2) hC.1 (tz_cI _) (so_bipush (16) (16) (by decide +kernel) (by decide +kernel)) (sb_cons (n := 1) hC.1 (tz_cI _) (so_iconst (4) (4) (by decide +kernel) (by decide +kernel)) (sb_cons (n := 3) hC.1 (tz_crV _ _ _) (xc_197 hC w797 (by decide +kernel)) (sb_cons (n := 1) hC.1 (tz_l2i) (so_l2i (by decide +kernel)) (sb_cons (n := 3) hC.1 (tz_pI _ _) (xp_3_7 w221 (by decide +kernel)) (sb_cons (n := 1) hC.1 (tz_ldA _) (so_aload_n 0 (by decide +kernel)) (sb_cons (n := 1) hC.1 (tz_cI _) (so_iconst (0) (0) (by decide +kernel) (by decide +kernel)) (sb_cons (n := 3) hC.1 (tz_pI _ _) (xp_3_11 w228 (by decide +kernel)) (sb_cons (n := 1) hC.1 (tz_ldA _) (so_aload_n 0 (by decide +kernel)) (sb_cons (n := 1) hC.1 (tz_cI _) (so_iconst (0) (0) (by decide +kernel) (by decide +kernel)) (sb_cons (n := 3) hC.1 (tz_pI _ _) (xp_3_12 w230 (by decide +kernel)) (sb_cons (n := 1) hC.1 (tz_ldA _) (so_aload_n 0 (by decide +kernel)) (sb_cons (n := 1) hC.1 (tz_cI _) (so_iconst (0) (0) (by decide +kernel) (by decide +kernel)) (sb_cons (n := 3) hC.1 (tz_pI _ _) (xp_3_13 w232 (by decide +kernel)) (sb_cons (n := 1) hC.1 (tz_ldA _) (so_aload_n 0 (by decide +kernel)) (sb_cons (n := 3) hC.1 (tz_crV _ _ _) (xc_211 hC w801 (by decide +kernel)) (sb_cons (n := 1) hC.1 (tz_stA _) (so_astore_n 3 (by decide) (by decide +kernel)) (sb_cons (n := 1) hC.1 (tz_ldA _) (so_aload_n 0 (by decide +kernel)) (sb_cons (n := 1) hC.1 (tz_ldA _) (so_aload_n 3 (by decide +kernel)) (sb_cons (n := 3) hC.1 (tz_crV _ _ _) (xc_212 hC w811 (by decide +kernel)) (sb_nil (tz_if _ _ _ _ _) (st_if_ne (off := 25) (by decide) (by decide) (by decide +kernel))))))))))))))))))))))))))))))))))))))))))))))))))))))))))
theorem xb214_1 (hC : z_HC l G d z_tb C) : z_SB "QuotaPeers$Message" prog_6_method_19_code 5 false d G l C ((Option.none : Option Jvm.ClassFile.FieldType)) xp214 96 xB214_1.1 xB214_1.2 := sb_cons (n := 1) hC.1 (tz_ldA _) (so_aload_n 0 (by decide +kernel)) (sb_cons (n := 2) hC.1 (tz_cI _) (so_bipush (20) (20) (by decide +kernel) (by decide +kernel)) (sb_cons (n := 1) hC.1 (tz_ldA _) (so_aload_n 0 (by decide +kernel)) (sb_cons (n := 3) hC.1 (tz_gI _ _) (xg_3_2 w211 (by decide +kernel)) (sb_cons (n := 1) hC.1 (tz_cI _) (so_iconst (0) (0) (by decide +kernel) (by decide +kernel)) (sb_cons (n := 3) hC.1 (tz_crS _ _) (xc_202 hC w819 (by decide +kernel)) (sb_nil (tz_if _ _ _ _ _) (st_if_ne (off := 11) (by decide) (by decide) (by decide +kernel))))))))
theorem xb214_2 (hC : z_HC l G d z_tb C) : z_SB "QuotaPeers$Message" prog_6_method_19_code 5 false d G l C ((Option.none : Option Jvm.ClassFile.FieldType)) xp214 110 xB214_2.1 xB214_2.2 := sb_cons (n := 1) hC.1 (tz_ldA _) (so_aload_n 0 (by decide +kernel)) (sb_cons (n := 1) hC.1 (tz_ldA _) (so_aload_n 3 (by decide +kernel)) (sb_cons (n := 3) hC.1 (tz_crV _ _ _) (xc_213 hC w832 (by decide +kernel)) (sb_nil (tz_if _ _ _ _ _) (st_if_eq (off := 7) (by decide) (by decide) (by decide +kernel)))))
theorem xb214_3 (hC : z_HC l G d z_tb C) : z_SB "QuotaPeers$Message" prog_6_method_19_code 5 false d G l C ((Option.none : Option Jvm.ClassFile.FieldType)) xp214 118 xB214_3.1 xB214_3.2 := sb_cons (n := 1) hC.1 (tz_cI _) (so_iconst (1) (1) (by decide +kernel) (by decide +kernel)) (sb_nil (tz_goto _ _) (st_goto (off := 4) (by decide) (by decide +kernel)))
theorem xb214_4 (hC : z_HC l G d z_tb C) : z_SB "QuotaPeers$Message" prog_6_method_19_code 5 false d G l C ((Option.none : Option Jvm.ClassFile.FieldType)) xp214 122 xB214_4.1 xB214_4.2 := sb_cons (n := 1) hC.1 (tz_cI _) (so_iconst (0) (0) (by decide +kernel) (by decide +kernel)) (sb_nil (tz_goto _ _) (st_fall (by decide)))
theorem xb214_5 (hC : z_HC l G d z_tb C) : z_SB "QuotaPeers$Message" prog_6_method_19_code 5 false d G l C ((Option.none : Option Jvm.ClassFile.FieldType)) xp214 123 xB214_5.1 xB214_5.2 := sb_cons (n := 2) hC.1 (tz_stI _) (so_istore 4 (by decide) (by decide +kernel)) (sb_nil (tz_vret) (st_vret rfl (by decide +kernel)))
theorem xm214 (hC : z_HC l G d z_tb C) : z_SM "QuotaPeers$Message" prog_6_method_19_code 5 false d G l C ((Option.none : Option Jvm.ClassFile.FieldType)) xp214 xP214 := by
  intro b
  match b with
  | 0 => exact xb214_0 hC
  | 1 => exact xb214_1 hC
  | 2 => exact xb214_2 hC
  | 3 => exact xb214_3 hC
  | 4 => exact xb214_4 hC
  | 5 => exact xb214_5 hC
  | _ + 6 => exact sb_dead
end
/-! QuotaPeers$Message.tellsFailed()Z -/
def xB215_0 : List z_Op × z_Tm := ([zo_ldA 0, zo_gI 3 12, zo_cI (5001)], zt_icmp (fun x y => x = y) 5 [false] 1 [true])
def xB215_1 : List z_Op × z_Tm := ([zo_ldA 0, zo_gI 3 12, zo_cI (5005)], zt_icmp (fun x y => x = y) 5 [false] 2 [true])
def xB215_2 : List z_Op × z_Tm := ([zo_ldA 0, zo_gI 3 12, zo_cI (5009)], zt_icmp (fun x y => x = y) 5 [false] 3 [true])
def xB215_3 : List z_Op × z_Tm := ([zo_ldA 0, zo_gI 3 12, zo_cI (5014)], zt_icmp (fun x y => x = y) 5 [false] 4 [true])
def xB215_4 : List z_Op × z_Tm := ([zo_ldA 0, zo_gI 3 12, zo_cI (3009)], zt_icmp (fun x y => x = y) 5 [false] 6 [false])
def xB215_5 : List z_Op × z_Tm := ([zo_cI (1)], zt_goto 7 [false])
def xB215_6 : List z_Op × z_Tm := ([zo_cI (0)], zt_goto 7 [false])
def xB215_7 : List z_Op × z_Tm := ([], zt_zret)
def xp215 : Nat → Nat := fun b => ([0, 10, 20, 30, 40, 50, 54, 55] : List Nat).getD b 0
def xP215 : z_M := fun b => ([xB215_0, xB215_1, xB215_2, xB215_3, xB215_4, xB215_5, xB215_6, xB215_7] : List (List z_Op × z_Tm)).getD b z_dead
section
variable {d : Nat} {G : z_G} {l : Launch} {C : z_O}
theorem xb215_0 (hC : z_HC l G d z_tb C) : z_SB "QuotaPeers$Message" prog_6_method_20_code 1 false d G l C ((Option.some Jvm.ClassFile.FieldType.boolean)) xp215 0 xB215_0.1 xB215_0.2 := sb_cons (n := 1) hC.1 (tz_ldA _) (so_aload_n 0 (by decide +kernel)) (sb_cons (n := 3) hC.1 (tz_gI _ _) (xg_3_12 w230 (by decide +kernel)) (sb_cons (n := 3) hC.1 (tz_cI _) (so_sipush (5001) (5001) (by decide +kernel) (by decide +kernel)) (sb_nil (tz_icmp _ _ _ _ _) (st_icmp_eq (off := 43) (by decide) (by decide) (by decide +kernel)))))
theorem xb215_1 (hC : z_HC l G d z_tb C) : z_SB "QuotaPeers$Message" prog_6_method_20_code 1 false d G l C ((Option.some Jvm.ClassFile.FieldType.boolean)) xp215 10 xB215_1.1 xB215_1.2 := sb_cons (n := 1) hC.1 (tz_ldA _) (so_aload_n 0 (by decide +kernel)) (sb_cons (n := 3) hC.1 (tz_gI _ _) (xg_3_12 w230 (by decide +kernel)) (sb_cons (n := 3) hC.1 (tz_cI _) (so_sipush (5005) (5005) (by decide +kernel) (by decide +kernel)) (sb_nil (tz_icmp _ _ _ _ _) (st_icmp_eq (off := 33) (by decide) (by decide) (by decide +kernel)))))
theorem xb215_2 (hC : z_HC l G d z_tb C) : z_SB "QuotaPeers$Message" prog_6_method_20_code 1 false d G l C ((Option.some Jvm.ClassFile.FieldType.boolean)) xp215 20 xB215_2.1 xB215_2.2 := sb_cons (n := 1) hC.1 (tz_ldA _) (so_aload_n 0 (by decide +kernel)) (sb_cons (n := 3) hC.1 (tz_gI _ _) (xg_3_12 w230 (by decide +kernel)) (sb_cons (n := 3) hC.1 (tz_cI _) (so_sipush (5009) (5009) (by decide +kernel) (by decide +kernel)) (sb_nil (tz_icmp _ _ _ _ _) (st_icmp_eq (off := 23) (by decide) (by decide) (by decide +kernel)))))
theorem xb215_3 (hC : z_HC l G d z_tb C) : z_SB "QuotaPeers$Message" prog_6_method_20_code 1 false d G l C ((Option.some Jvm.ClassFile.FieldType.boolean)) xp215 30 xB215_3.1 xB215_3.2 := sb_cons (n := 1) hC.1 (tz_ldA _) (so_aload_n 0 (by decide +kernel)) (sb_cons (n := 3) hC.1 (tz_gI _ _) (xg_3_12 w230 (by decide +kernel)) (sb_cons (n := 3) hC.1 (tz_cI _) (so_sipush (5014) (5014) (by decide +kernel) (by decide +kernel)) (sb_nil (tz_icmp _ _ _ _ _) (st_icmp_eq (off := 13) (by decide) (by decide) (by decide +kernel)))))
theorem xb215_4 (hC : z_HC l G d z_tb C) : z_SB "QuotaPeers$Message" prog_6_method_20_code 1 false d G l C ((Option.some Jvm.ClassFile.FieldType.boolean)) xp215 40 xB215_4.1 xB215_4.2 := sb_cons (n := 1) hC.1 (tz_ldA _) (so_aload_n 0 (by decide +kernel)) (sb_cons (n := 3) hC.1 (tz_gI _ _) (xg_3_12 w230 (by decide +kernel)) (sb_cons (n := 3) hC.1 (tz_cI _) (so_sipush (3009) (3009) (by decide +kernel) (by decide +kernel)) (sb_nil (tz_icmp _ _ _ _ _) (st_icmp_ne (off := 7) (by decide) (by decide) (by decide +kernel)))))
theorem xb215_5 (hC : z_HC l G d z_tb C) : z_SB "QuotaPeers$Message" prog_6_method_20_code 1 false d G l C ((Option.some Jvm.ClassFile.FieldType.boolean)) xp215 50 xB215_5.1 xB215_5.2 := sb_cons (n := 1) hC.1 (tz_cI _) (so_iconst (1) (1) (by decide +kernel) (by decide +kernel)) (sb_nil (tz_goto _ _) (st_goto (off := 4) (by decide) (by decide +kernel)))
theorem xb215_6 (hC : z_HC l G d z_tb C) : z_SB "QuotaPeers$Message" prog_6_method_20_code 1 false d G l C ((Option.some Jvm.ClassFile.FieldType.boolean)) xp215 54 xB215_6.1 xB215_6.2 := sb_cons (n := 1) hC.1 (tz_cI _) (so_iconst (0) (0) (by decide +kernel) (by decide +kernel)) (sb_nil (tz_goto _ _) (st_fall (by decide)))
theorem xb215_7 (hC : z_HC l G d z_tb C) : z_SB "QuotaPeers$Message" prog_6_method_20_code 1 false d G l C ((Option.some Jvm.ClassFile.FieldType.boolean)) xp215 55 xB215_7.1 xB215_7.2 := sb_nil (tz_zret) (st_zret rfl (by decide +kernel))
theorem xm215 (hC : z_HC l G d z_tb C) : z_SM "QuotaPeers$Message" prog_6_method_20_code 1 false d G l C ((Option.some Jvm.ClassFile.FieldType.boolean)) xp215 xP215 := by
  intro b
  match b with
  | 0 => exact xb215_0 hC
  | 1 => exact xb215_1 hC
  | 2 => exact xb215_2 hC
  | 3 => exact xb215_3 hC
  | 4 => exact xb215_4 hC
  | 5 => exact xb215_5 hC
  | 6 => exact xb215_6 hC
  | 7 => exact xb215_7 hC
  | _ + 8 => exact sb_dead
end
/-! QuotaPeers$Page.<init>()V -/
def xB216_0 : List z_Op × z_Tm := ([zo_ldA 0, zo_obj, zo_ldA 0, zo_cI (700), zo_newA 79714193 700, zo_pR 2 0], zt_vret)
def xp216 : Nat → Nat := fun b => ([0] : List Nat).getD b 0
def xP216 : z_M := fun b => ([xB216_0] : List (List z_Op × z_Tm)).getD b z_dead
section
variable {d : Nat} {G : z_G} {l : Launch} {C : z_O}
theorem xb216_0 (hC : z_HC l G d z_tb C) : z_SB "QuotaPeers$Page" prog_7_method_1_code 1 true d G l C ((Option.none : Option Jvm.ClassFile.FieldType)) xp216 0 xB216_0.1 xB216_0.2 := sb_cons (n := 1) hC.1 (tz_ldA _) (so_aload_n 0 (by decide +kernel)) (sb_cons (n := 3) hC.1 (tz_obj) (so_obj w179 xo_1 xo_2 (by decide +kernel)) (sb_cons (n := 1) hC.1 (tz_ldA _) (so_aload_n 0 (by decide +kernel)) (sb_cons (n := 3) hC.1 (tz_cI _) (so_sipush (700) (700) (by decide +kernel) (by decide +kernel)) (sb_cons (n := 2) hC.1 (tz_newA _ _) (so_newB 79714193 700 rfl w173 (by decide +kernel) (by decide +kernel) (by decide +kernel) (by decide +kernel)) (sb_cons (n := 3) hC.1 (tz_pR _ _) (xpF_2_0 rfl rfl w180 (by decide +kernel)) (sb_nil (tz_vret) (st_vret rfl (by decide +kernel))))))))
theorem xm216 (hC : z_HC l G d z_tb C) : z_SM "QuotaPeers$Page" prog_7_method_1_code 1 true d G l C ((Option.none : Option Jvm.ClassFile.FieldType)) xp216 xP216 := by
  intro b
  match b with
  | 0 => exact xb216_0 hC
  | _ + 1 => exact sb_dead
end
/-! QuotaPeers$Page.put(JI)V -/
def xB217_0 : List z_Op × z_Tm := ([zo_ldI 3, zo_cI (1), zo_ii ((· - ·)), zo_stI 4], zt_goto 1 [true, true, false, false, true])
def xB217_1 : List z_Op × z_Tm := ([zo_ldI 4], zt_if (fun x => x < 0) 3 [false, false, false, false, false] 2 [true, true, false, false, true])
def xB217_2 : List z_Op × z_Tm := ([zo_ldA 0, zo_gR 2 0, zo_ldA 0, zo_dupR, zo_gI 2 1, zo_dupx1, zo_cI (1), zo_ii ((· + ·)), zo_pI 2 1, zo_ldJ 1, zo_cI (8), zo_ldI 4, zo_ii ((· * ·)), zo_lshr, zo_l2i, zo_i2b, zo_astB, zo_inc 4 (-1)], zt_goto 1 [true, true, false, false, true])
def xB217_3 : List z_Op × z_Tm := ([], zt_vret)
def xp217 : Nat → Nat := fun b => ([0, 5, 10, 41] : List Nat).getD b 0
def xP217 : z_M := fun b => ([xB217_0, xB217_1, xB217_2, xB217_3] : List (List z_Op × z_Tm)).getD b z_dead
section
variable {d : Nat} {G : z_G} {l : Launch} {C : z_O}
theorem xb217_0 (hC : z_HC l G d z_tb C) : z_SB "QuotaPeers$Page" prog_7_method_2_code 5 false d G l C ((Option.none : Option Jvm.ClassFile.FieldType)) xp217 0 xB217_0.1 xB217_0.2 := sb_cons (n := 1) hC.1 (tz_ldI _) (so_iload_n 3 (by decide +kernel)) (sb_cons (n := 1) hC.1 (tz_cI _) (so_iconst (1) (1) (by decide +kernel) (by decide +kernel)) (sb_cons (n := 1) hC.1 (tz_ii _) (so_isub (by decide +kernel)) (sb_cons (n := 2) hC.1 (tz_stI _) (so_istore 4 (by decide) (by decide +kernel)) (sb_nil (tz_goto _ _) (st_fall (by decide))))))
theorem xb217_1 (hC : z_HC l G d z_tb C) : z_SB "QuotaPeers$Page" prog_7_method_2_code 5 false d G l C ((Option.none : Option Jvm.ClassFile.FieldType)) xp217 5 xB217_1.1 xB217_1.2 := sb_cons (n := 2) hC.1 (tz_ldI _) (so_iload 4 (by decide +kernel)) (sb_nil (tz_if _ _ _ _ _) (st_if_lt (off := 34) (by decide) (by decide) (by decide +kernel)))
theorem xb217_2 (hC : z_HC l G d z_tb C) : z_SB "QuotaPeers$Page" prog_7_method_2_code 5 false d G l C ((Option.none : Option Jvm.ClassFile.FieldType)) xp217 10 xB217_2.1 xB217_2.2 := sb_cons (n := 1) hC.1 (tz_ldA _) (so_aload_n 0 (by decide +kernel)) (sb_cons (n := 3) hC.1 (tz_gR _ _) (xg_2_0 w180 (by decide +kernel)) (sb_cons (n := 1) hC.1 (tz_ldA _) (so_aload_n 0 (by decide +kernel)) (sb_cons (n := 1) hC.1 (tz_dupR) (so_dupR (by decide +kernel)) (sb_cons (n := 3) hC.1 (tz_gI _ _) (xg_2_1 w182 (by decide +kernel)) (sb_cons (n := 1) hC.1 (tz_dupx1) (so_dupx1 (by decide +kernel)) (sb_cons (n := 1) hC.1 (tz_cI _) (so_iconst (1) (1) (by decide +kernel) (by decide +kernel)) (sb_cons (n := 1) hC.1 (tz_ii _) (so_iadd (by decide +kernel)) (sb_cons (n := 3) hC.1 (tz_pI _ _) (xp_2_1 w182 (by decide +kernel)) (sb_cons (n := 1) hC.1 (tz_ldJ _) (so_lload_n 1 (by decide +kernel)) (sb_cons (n := 2) hC.1 (tz_cI _) (so_bipush (8) (8) (by decide +kernel) (by decide +kernel)) (sb_cons (n := 2) hC.1 (tz_ldI _) (so_iload 4 (by decide +kernel)) (sb_cons (n := 1) hC.1 (tz_ii _) (so_imul (by decide +kernel)) (sb_cons (n := 1) hC.1 (tz_lshr) (so_lshr (by decide +kernel)) (sb_cons (n := 1) hC.1 (tz_l2i) (so_l2i (by decide +kernel)) (sb_cons (n := 1) hC.1 (tz_i2b) (so_i2b (by decide +kernel)) (sb_cons (n := 1) hC.1 (tz_astB) (so_bastore (by decide +kernel)) (sb_cons (n := 3) hC.1 (tz_inc _ _) (so_iinc 4 (-1) (-1) (by decide +kernel) (by decide) (by decide +kernel)) (sb_nil (tz_goto _ _) (st_goto (off := -33) (by decide) (by decide +kernel))))))))))))))))))))
theorem xb217_3 (hC : z_HC l G d z_tb C) : z_SB "QuotaPeers$Page" prog_7_method_2_code 5 false d G l C ((Option.none : Option Jvm.ClassFile.FieldType)) xp217 41 xB217_3.1 xB217_3.2 := sb_nil (tz_vret) (st_vret rfl (by decide +kernel))
theorem xm217 (hC : z_HC l G d z_tb C) : z_SM "QuotaPeers$Page" prog_7_method_2_code 5 false d G l C ((Option.none : Option Jvm.ClassFile.FieldType)) xp217 xP217 := by
  intro b
  match b with
  | 0 => exact xb217_0 hC
  | 1 => exact xb217_1 hC
  | 2 => exact xb217_2 hC
  | 3 => exact xb217_3 hC
  | _ + 4 => exact sb_dead
end
/-! QuotaPeers$Page.set(IJI)V -/
def xB218_0 : List z_Op × z_Tm := ([zo_cI (0), zo_stI 5], zt_goto 1 [true, true, true, false, true, true])
def xB218_1 : List z_Op × z_Tm := ([zo_ldI 5, zo_ldI 4], zt_icmp (fun x y => y ≤ x) 3 [false, false, false, false, false, false] 2 [true, true, true, false, true, true])
def xB218_2 : List z_Op × z_Tm := ([zo_ldA 0, zo_gR 2 0, zo_ldI 1, zo_ldI 5, zo_ii ((· + ·)), zo_ldJ 2, zo_cI (8), zo_ldI 4, zo_cI (1), zo_ii ((· - ·)), zo_ldI 5, zo_ii ((· - ·)), zo_ii ((· * ·)), zo_lshr, zo_l2i, zo_i2b, zo_astB, zo_inc 5 (1)], zt_goto 1 [true, true, true, false, true, true])
def xB218_3 : List z_Op × z_Tm := ([], zt_vret)
def xp218 : Nat → Nat := fun b => ([0, 3, 10, 39] : List Nat).getD b 0
def xP218 : z_M := fun b => ([xB218_0, xB218_1, xB218_2, xB218_3] : List (List z_Op × z_Tm)).getD b z_dead
section
variable {d : Nat} {G : z_G} {l : Launch} {C : z_O}
theorem xb218_0 (hC : z_HC l G d z_tb C) : z_SB "QuotaPeers$Page" prog_7_method_3_code 6 false d G l C ((Option.none : Option Jvm.ClassFile.FieldType)) xp218 0 xB218_0.1 xB218_0.2 := sb_cons (n := 1) hC.1 (tz_cI _) (so_iconst (0) (0) (by decide +kernel) (by decide +kernel)) (sb_cons (n := 2) hC.1 (tz_stI _) (so_istore 5 (by decide) (by decide +kernel)) (sb_nil (tz_goto _ _) (st_fall (by decide))))
theorem xb218_1 (hC : z_HC l G d z_tb C) : z_SB "QuotaPeers$Page" prog_7_method_3_code 6 false d G l C ((Option.none : Option Jvm.ClassFile.FieldType)) xp218 3 xB218_1.1 xB218_1.2 := sb_cons (n := 2) hC.1 (tz_ldI _) (so_iload 5 (by decide +kernel)) (sb_cons (n := 2) hC.1 (tz_ldI _) (so_iload 4 (by decide +kernel)) (sb_nil (tz_icmp _ _ _ _ _) (st_icmp_ge (off := 32) (by decide) (by decide) (by decide +kernel))))
theorem xb218_2 (hC : z_HC l G d z_tb C) : z_SB "QuotaPeers$Page" prog_7_method_3_code 6 false d G l C ((Option.none : Option Jvm.ClassFile.FieldType)) xp218 10 xB218_2.1 xB218_2.2 := sb_cons (n := 1) hC.1 (tz_ldA _) (so_aload_n 0 (by decide +kernel)) (sb_cons (n := 3) hC.1 (tz_gR _ _) (xg_2_0 w180 (by decide +kernel)) (sb_cons (n := 1) hC.1 (tz_ldI _) (so_iload_n 1 (by decide +kernel)) (sb_cons (n := 2) hC.1 (tz_ldI _) (so_iload 5 (by decide +kernel)) (sb_cons (n := 1) hC.1 (tz_ii _) (so_iadd (by decide +kernel)) (sb_cons (n := 1) hC.1 (tz_ldJ _) (so_lload_n 2 (by decide +kernel)) (sb_cons (n := 2) hC.1 (tz_cI _) (so_bipush (8) (8) (by decide +kernel) (by decide +kernel)) (sb_cons (n := 2) hC.1 (tz_ldI _) (so_iload 4 (by decide +kernel)) (sb_cons (n := 1) hC.1 (tz_cI _) (so_iconst (1) (1) (by decide +kernel) (by decide +kernel)) (sb_cons (n := 1) hC.1 (tz_ii _) (so_isub (by decide +kernel)) (sb_cons (n := 2) hC.1 (tz_ldI _) (so_iload 5 (by decide +kernel)) (sb_cons (n := 1) hC.1 (tz_ii _) (so_isub (by decide +kernel)) (sb_cons (n := 1) hC.1 (tz_ii _) (so_imul (by decide +kernel)) (sb_cons (n := 1) hC.1 (tz_lshr) (so_lshr (by decide +kernel)) (sb_cons (n := 1) hC.1 (tz_l2i) (so_l2i (by decide +kernel)) (sb_cons (n := 1) hC.1 (tz_i2b) (so_i2b (by decide +kernel)) (sb_cons (n := 1) hC.1 (tz_astB) (so_bastore (by decide +kernel)) (sb_cons (n := 3) hC.1 (tz_inc _ _) (so_iinc 5 (1) (1) (by decide +kernel) (by decide) (by decide +kernel)) (sb_nil (tz_goto _ _) (st_goto (off := -33) (by decide) (by decide +kernel))))))))))))))))))))
theorem xb218_3 (hC : z_HC l G d z_tb C) : z_SB "QuotaPeers$Page" prog_7_method_3_code 6 false d G l C ((Option.none : Option Jvm.ClassFile.FieldType)) xp218 39 xB218_3.1 xB218_3.2 := sb_nil (tz_vret) (st_vret rfl (by decide +kernel))
theorem xm218 (hC : z_HC l G d z_tb C) : z_SM "QuotaPeers$Page" prog_7_method_3_code 6 false d G l C ((Option.none : Option Jvm.ClassFile.FieldType)) xp218 xP218 := by
  intro b
  match b with
  | 0 => exact xb218_0 hC
  | 1 => exact xb218_1 hC
  | 2 => exact xb218_2 hC
  | 3 => exact xb218_3 hC
  | _ + 4 => exact sb_dead
end
/-! QuotaPeers$Page.begin(IIIII)V -/
def xB219_0 : List z_Op × z_Tm := ([zo_ldA 0, zo_cI (0), zo_pI 2 1, zo_ldA 0, zo_cJ (1), zo_cI (4), zo_cvV 217 2 2, zo_ldA 0, zo_ldI 1, zo_i2l, zo_cI (1), zo_cvV 217 2 2, zo_ldA 0, zo_ldI 2, zo_i2l, zo_cI (3), zo_cvV 217 2 2, zo_ldA 0, zo_ldI 3, zo_i2l, zo_cI (4), zo_cvV 217 2 2, zo_ldA 0, zo_ldI 4, zo_i2l, zo_cI (4), zo_cvV 217 2 2, zo_ldA 0, zo_ldI 5, zo_i2l, zo_cI (4), zo_cvV 217 2 2, zo_ldA 0, zo_gR 2 0, zo_cI (0), zo_cI (1), zo_astB], zt_vret)
def xp219 : Nat → Nat := fun b => ([0] : List Nat).getD b 0
def xP219 : z_M := fun b => ([xB219_0] : List (List z_Op × z_Tm)).getD b z_dead
section
variable {d : Nat} {G : z_G} {l : Launch} {C : z_O}
theorem xb219_0 (hC : z_HC l G d z_tb C) : z_SB "QuotaPeers$Page" prog_7_method_4_code 6 false d G l C ((Option.none : Option Jvm.ClassFile.FieldType)) xp219 0 xB219_0.1 xB219_0.2 := sb_cons (n := 1) hC.1 (tz_ldA _) (so_aload_n 0 (by decide +kernel)) (sb_cons (n := 1) hC.1 (tz_cI _) (so_iconst (0) (0) (by decide +kernel) (by decide +kernel)) (sb_cons (n := 3) hC.1 (tz_pI _ _) (xp_2_1 w182 (by decide +kernel)) (sb_cons (n := 1) hC.1 (tz_ldA _) (so_aload_n 0 (by decide +kernel)) (sb_cons (n := 1) hC.1 (tz_cJ _) (so_lconst 1 (1) (by decide +kernel) (by decide +kernel)) (sb_cons (n := 1) hC.1 (tz_cI _) (so_iconst (4) (4) (by decide +kernel) (by decide +kernel)) (sb_cons (n := 3) hC.1 (tz_cvV _ _ _) (xc_217 hC w654 (by decide +kernel)) (sb_cons (n := 1) hC.1 (tz_ldA _) (so_aload_n 0 (by decide +kernel)) (sb_cons (n := 1) hC.1 (tz_ldI _) (so_iload_n 1 (by decide +kernel)) (sb_cons (n := 1) hC.1 (tz_i2l) (so_i2l (by decide +kernel)) (sb_cons (n := 1) hC.1 (tz_cI _) (so_iconst (1) (1) (by decide +kernel) (by decide +kernel)) (sb_cons (n := 3) hC.1 (tz_cvV _ _ _) (xc_217 hC w654 (by decide +kernel)) (sb_cons (n := 1) hC.1 (tz_ldA _) (so_aload_n 0 (by decide +kernel)) (sb_cons (n := 1) hC.1 (tz_ldI _) (so_iload_n 2 (by decide +kernel)) (sb_cons (n := 1) hC.1 (tz_i2l) (so_i2l (by decide +kernel)) (sb_cons (n := 1) hC.1 (tz_cI _) (so_iconst (3) (3) (by decide +kernel) (by decide +kernel)) (sb_cons (n := 3) hC.1 (tz_cvV _ _ _) (xc_217 hC w654 (by decide +kernel)) (sb_cons (n := 1) hC.1 (tz_ldA _) (so_aload_n 0 (by decide +kernel)) (sb_cons (n := 1) hC.1 (tz_ldI _) (so_iload_n 3 (by decide +kernel)) (sb_cons (n := 1) hC.1 (tz_i2l) (so_i2l (by decide +kernel)) (sb_cons (n := 1) hC.1 (tz_cI _) (so_iconst (4) (4) (by decide +kernel) (by decide +kernel)) (sb_cons (n := 3) hC.1 (tz_cvV _ _ _) (xc_217 hC w654 (by decide +kernel)) (sb_cons (n := 1) hC.1 (tz_ldA _) (so_aload_n 0 (by decide +kernel)) (sb_cons (n := 2) hC.1 (tz_ldI _) (so_iload 4 (by decide +kernel)) (sb_cons (n := 1) hC.1 (tz_i2l) (so_i2l (by decide +kernel)) (sb_cons (n := 1) hC.1 (tz_cI _) (so_iconst (4) (4) (by decide +kernel) (by decide +kernel)) (sb_cons (n := 3) hC.1 (tz_cvV _ _ _) (xc_217 hC w654 (by decide +kernel)) (sb_cons (n := 1) hC.1 (tz_ldA _) (so_aload_n 0 (by decide +kernel)) (sb_cons (n := 2) hC.1 (tz_ldI _) (so_iload 5 (by decide +kernel)) (sb_cons (n := 1) hC.1 (tz_i2l) (so_i2l (by decide +kernel)) (sb_cons (n := 1) hC.1 (tz_cI _) (so_iconst (4) (4) (by decide +kernel) (by decide +kernel)) (sb_cons (n := 3) hC.1 (tz_cvV _ _ _) (xc_217 hC w654 (by decide +kernel)) (sb_cons (n := 1) hC.1 (tz_ldA _) (so_aload_n 0 (by decide +kernel)) (sb_cons (n := 3) hC.1 (tz_gR _ _) (xg_2_0 w180 (by decide +kernel)) (sb_cons (n := 1) hC.1 (tz_cI _) (so_iconst (0) (0) (by decide +kernel) (by decide +kernel)) (sb_cons (n := 1) hC.1 (tz_cI _) (so_iconst (1) (1) (by decide +kernel) (by decide +kernel)) (sb_cons (n := 1) hC.1 (tz_astB) (so_bastore (by decide +kernel)) (sb_nil (tz_vret) (st_vret rfl (by decide +kernel)))))))))))))))))))))))))))))))))))))))
theorem xm219 (hC : z_HC l G d z_tb C) : z_SM "QuotaPeers$Page" prog_7_method_4_code 6 false d G l C ((Option.none : Option Jvm.ClassFile.FieldType)) xp219 xP219 := by
  intro b
  match b with
  | 0 => exact xb219_0 hC
  | _ + 1 => exact sb_dead
end
/-! QuotaPeers$Page.end()V -/
def xB220_0 : List z_Op × z_Tm := ([zo_ldA 0, zo_cI (1), zo_ldA 0, zo_gI 2 1, zo_i2l, zo_cI (3), zo_cvV 218 3 2], zt_vret)
def xp220 : Nat → Nat := fun b => ([0] : List Nat).getD b 0
def xP220 : z_M := fun b => ([xB220_0] : List (List z_Op × z_Tm)).getD b z_dead
section
variable {d : Nat} {G : z_G} {l : Launch} {C : z_O}
theorem xb220_0 (hC : z_HC l G d z_tb C) : z_SB "QuotaPeers$Page" prog_7_method_5_code 1 false d G l C ((Option.none : Option Jvm.ClassFile.FieldType)) xp220 0 xB220_0.1 xB220_0.2 := sb_cons (n := 1) hC.1 (tz_ldA _) (so_aload_n 0 (by decide +kernel)) (sb_cons (n := 1) hC.1 (tz_cI _) (so_iconst (1) (1) (by decide +kernel) (by decide +kernel)) (sb_cons (n := 1) hC.1 (tz_ldA _) (so_aload_n 0 (by decide +kernel)) (sb_cons (n := 3) hC.1 (tz_gI _ _) (xg_2_1 w182 (by decide +kernel)) (sb_cons (n := 1) hC.1 (tz_i2l) (so_i2l (by decide +kernel)) (sb_cons (n := 1) hC.1 (tz_cI _) (so_iconst (3) (3) (by decide +kernel) (by decide +kernel)) (sb_cons (n := 3) hC.1 (tz_cvV _ _ _) (xc_218 hC w693 (by decide +kernel)) (sb_nil (tz_vret) (st_vret rfl (by decide +kernel)))))))))
theorem xm220 (hC : z_HC l G d z_tb C) : z_SM "QuotaPeers$Page" prog_7_method_5_code 1 false d G l C ((Option.none : Option Jvm.ClassFile.FieldType)) xp220 xP220 := by
  intro b
  match b with
  | 0 => exact xb220_0 hC
  | _ + 1 => exact sb_dead
end
/-! QuotaPeers$Page.attribute(II)V -/
def xB221_0 : List z_Op × z_Tm := ([zo_ldA 0, zo_ldI 1, zo_i2l, zo_cI (4), zo_cvV 217 2 2, zo_ldA 0, zo_cJ (64), zo_cI (1), zo_cvV 217 2 2, zo_ldA 0, zo_cI (8), zo_ldI 2, zo_ii ((· + ·)), zo_i2l, zo_cI (3), zo_cvV 217 2 2], zt_vret)
def xp221 : Nat → Nat := fun b => ([0] : List Nat).getD b 0
def xP221 : z_M := fun b => ([xB221_0] : List (List z_Op × z_Tm)).getD b z_dead
section
variable {d : Nat} {G : z_G} {l : Launch} {C : z_O}
theorem xb221_0 (hC : z_HC l G d z_tb C) : z_SB "QuotaPeers$Page" prog_7_method_6_code 3 false d G l C ((Option.none : Option Jvm.ClassFile.FieldType)) xp221 0 xB221_0.1 xB221_0.2 := sb_cons (n := 1) hC.1 (tz_ldA _) (so_aload_n 0 (by decide +kernel)) (sb_cons (n := 1) hC.1 (tz_ldI _) (so_iload_n 1 (by decide +kernel)) (sb_cons (n := 1) hC.1 (tz_i2l) (so_i2l (by decide +kernel)) (sb_cons (n := 1) hC.1 (tz_cI _) (so_iconst (4) (4) (by decide +kernel) (by decide +kernel)) (sb_cons (n := 3) hC.1 (tz_cvV _ _ _) (xc_217 hC w654 (by decide +kernel)) (sb_cons (n := 1) hC.1 (tz_ldA _) (so_aload_n 0 (by decide +kernel)) (sb_cons (n := 3) hC.1 (tz_cJ _) (so_ldc2 27 (64) w666 (by decide +kernel)) (sb_cons (n := 1) hC.1 (tz_cI _) (so_iconst (1) (1) (by decide +kernel) (by decide +kernel)) (sb_cons (n := 3) hC.1 (tz_cvV _ _ _) (xc_217 hC w654 (by decide +kernel)) (sb_cons (n := 1) hC.1 (tz_ldA _) (so_aload_n 0 (by decide +kernel)) (sb_cons (n := 2) hC.1 (tz_cI _) (so_bipush (8) (8) (by decide +kernel) (by decide +kernel)) (sb_cons (n := 1) hC.1 (tz_ldI _) (so_iload_n 2 (by decide +kernel)) (sb_cons (n := 1) hC.1 (tz_ii _) (so_iadd (by decide +kernel)) (sb_cons (n := 1) hC.1 (tz_i2l) (so_i2l (by decide +kernel)) (sb_cons (n := 1) hC.1 (tz_cI _) (so_iconst (3) (3) (by decide +kernel) (by decide +kernel)) (sb_cons (n := 3) hC.1 (tz_cvV _ _ _) (xc_217 hC w654 (by decide +kernel)) (sb_nil (tz_vret) (st_vret rfl (by decide +kernel))))))))))))))))))
theorem xm221 (hC : z_HC l G d z_tb C) : z_SM "QuotaPeers$Page" prog_7_method_6_code 3 false d G l C ((Option.none : Option Jvm.ClassFile.FieldType)) xp221 xP221 := by
  intro b
  match b with
  | 0 => exact xb221_0 hC
  | _ + 1 => exact sb_dead
end
/-! QuotaPeers$Page.pad()V -/
def xB222_0 : List z_Op × z_Tm := ([zo_ldA 0, zo_gI 2 1, zo_cI (4), zo_rem], zt_if (fun x => x = 0) 2 [false] 1 [true])
def xB222_1 : List z_Op × z_Tm := ([zo_ldA 0, zo_gR 2 0, zo_ldA 0, zo_dupR, zo_gI 2 1, zo_dupx1, zo_cI (1), zo_ii ((· + ·)), zo_pI 2 1, zo_cI (0), zo_astB], zt_goto 0 [true])
def xB222_2 : List z_Op × z_Tm := ([], zt_vret)
def xp222 : Nat → Nat := fun b => ([0, 9, 29] : List Nat).getD b 0
def xP222 : z_M := fun b => ([xB222_0, xB222_1, xB222_2] : List (List z_Op × z_Tm)).getD b z_dead
section
variable {d : Nat} {G : z_G} {l : Launch} {C : z_O}
theorem xb222_0 (hC : z_HC l G d z_tb C) : z_SB "QuotaPeers$Page" prog_7_method_7_code 1 false d G l C ((Option.none : Option Jvm.ClassFile.FieldType)) xp222 0 xB222_0.1 xB222_0.2 := sb_cons (n := 1) hC.1 (tz_ldA _) (so_aload_n 0 (by decide +kernel)) (sb_cons (n := 3) hC.1 (tz_gI _ _) (xg_2_1 w182 (by decide +kernel)) (sb_cons (n := 1) hC.1 (tz_cI _) (so_iconst (4) (4) (by decide +kernel) (by decide +kernel)) (sb_cons (n := 1) hC.1 (tz_rem) (so_irem (by decide +kernel)) (sb_nil (tz_if _ _ _ _ _) (st_if_eq (off := 23) (by decide) (by decide) (by decide +kernel))))))
theorem xb222_1 (hC : z_HC l G d z_tb C) : z_SB "QuotaPeers$Page" prog_7_method_7_code 1 false d G l C ((Option.none : Option Jvm.ClassFile.FieldType)) xp222 9 xB222_1.1 xB222_1.2 := sb_cons (n := 1) hC.1 (tz_ldA _) (so_aload_n 0 (by decide +kernel)) (sb_cons (n := 3) hC.1 (tz_gR _ _) (xg_2_0 w180 (by decide +kernel)) (sb_cons (n := 1) hC.1 (tz_ldA _) (so_aload_n 0 (by decide +kernel)) (sb_cons (n := 1) hC.1 (tz_dupR) (so_dupR (by decide +kernel)) (sb_cons (n := 3) hC.1 (tz_gI _ _) (xg_2_1 w182 (by decide +kernel)) (sb_cons (n := 1) hC.1 (tz_dupx1) (so_dupx1 (by decide +kernel)) (sb_cons (n := 1) hC.1 (tz_cI _) (so_iconst (1) (1) (by decide +kernel) (by decide +kernel)) (sb_cons (n := 1) hC.1 (tz_ii _) (so_iadd (by decide +kernel)) (sb_cons (n := 3) hC.1 (tz_pI _ _) (xp_2_1 w182 (by decide +kernel)) (sb_cons (n := 1) hC.1 (tz_cI _) (so_iconst (0) (0) (by decide +kernel) (by decide +kernel)) (sb_cons (n := 1) hC.1 (tz_astB) (so_bastore (by decide +kernel)) (sb_nil (tz_goto _ _) (st_goto (off := -26) (by decide) (by decide +kernel)))))))))))))
theorem xb222_2 (hC : z_HC l G d z_tb C) : z_SB "QuotaPeers$Page" prog_7_method_7_code 1 false d G l C ((Option.none : Option Jvm.ClassFile.FieldType)) xp222 29 xB222_2.1 xB222_2.2 := sb_nil (tz_vret) (st_vret rfl (by decide +kernel))
theorem xm222 (hC : z_HC l G d z_tb C) : z_SM "QuotaPeers$Page" prog_7_method_7_code 1 false d G l C ((Option.none : Option Jvm.ClassFile.FieldType)) xp222 xP222 := by
  intro b
  match b with
  | 0 => exact xb222_0 hC
  | 1 => exact xb222_1 hC
  | 2 => exact xb222_2 hC
  | _ + 3 => exact sb_dead
end
/-! QuotaPeers$Page.number(IJ)V -/
def xB223_0 : List z_Op × z_Tm := ([zo_ldA 0, zo_ldI 1, zo_cI (4), zo_cvV 221 2 2, zo_ldA 0, zo_ldJ 2, zo_cI (4), zo_cvV 217 2 2], zt_vret)
def xp223 : Nat → Nat := fun b => ([0] : List Nat).getD b 0
def xP223 : z_M := fun b => ([xB223_0] : List (List z_Op × z_Tm)).getD b z_dead
section
variable {d : Nat} {G : z_G} {l : Launch} {C : z_O}
theorem xb223_0 (hC : z_HC l G d z_tb C) : z_SB "QuotaPeers$Page" prog_7_method_8_code 4 false d G l C ((Option.none : Option Jvm.ClassFile.FieldType)) xp223 0 xB223_0.1 xB223_0.2 := sb_cons (n := 1) hC.1 (tz_ldA _) (so_aload_n 0 (by decide +kernel)) (sb_cons (n := 1) hC.1 (tz_ldI _) (so_iload_n 1 (by decide +kernel)) (sb_cons (n := 1) hC.1 (tz_cI _) (so_iconst (4) (4) (by decide +kernel) (by decide +kernel)) (sb_cons (n := 3) hC.1 (tz_cvV _ _ _) (xc_221 hC w662 (by decide +kernel)) (sb_cons (n := 1) hC.1 (tz_ldA _) (so_aload_n 0 (by decide +kernel)) (sb_cons (n := 1) hC.1 (tz_ldJ _) (so_lload_n 2 (by decide +kernel)) (sb_cons (n := 1) hC.1 (tz_cI _) (so_iconst (4) (4) (by decide +kernel) (by decide +kernel)) (sb_cons (n := 3) hC.1 (tz_cvV _ _ _) (xc_217 hC w654 (by decide +kernel)) (sb_nil (tz_vret) (st_vret rfl (by decide +kernel))))))))))
theorem xm223 (hC : z_HC l G d z_tb C) : z_SM "QuotaPeers$Page" prog_7_method_8_code 4 false d G l C ((Option.none : Option Jvm.ClassFile.FieldType)) xp223 xP223 := by
  intro b
  match b with
  | 0 => exact xb223_0 hC
  | _ + 1 => exact sb_dead
end
/-! QuotaPeers$Page.text(ILQuotaPeers$Text;)V -/
def xB224_0 : List z_Op × z_Tm := ([zo_ldA 0, zo_ldI 1, zo_ldA 2, zo_gI 1 1, zo_cvV 221 2 2, zo_ldA 2, zo_gR 1 0, zo_cI (0), zo_ldA 0, zo_gR 2 0, zo_ldA 0, zo_gI 2 1, zo_ldA 2, zo_gI 1 1, zo_copy, zo_ldA 0, zo_dupR, zo_gI 2 1, zo_ldA 2, zo_gI 1 1, zo_ii ((· + ·)), zo_pI 2 1, zo_ldA 0, zo_cvV 222 0 2], zt_vret)
def xp224 : Nat → Nat := fun b => ([0] : List Nat).getD b 0
def xP224 : z_M := fun b => ([xB224_0] : List (List z_Op × z_Tm)).getD b z_dead
section
variable {d : Nat} {G : z_G} {l : Launch} {C : z_O}
theorem xb224_0 (hC : z_HC l G d z_tb C) : z_SB "QuotaPeers$Page" prog_7_method_9_code 3 false d G l C ((Option.none : Option Jvm.ClassFile.FieldType)) xp224 0 xB224_0.1 xB224_0.2 := sb_cons (n := 1) hC.1 (tz_ldA _) (so_aload_n 0 (by decide +kernel)) (sb_cons (n := 1) hC.1 (tz_ldI _) (so_iload_n 1 (by decide +kernel)) (sb_cons (n := 1) hC.1 (tz_ldA _) (so_aload_n 2 (by decide +kernel)) (sb_cons (n := 3) hC.1 (tz_gI _ _) (xgN_1_1 w167 (by decide +kernel)) (sb_cons (n := 3) hC.1 (tz_cvV _ _ _) (xc_221 hC w662 (by decide +kernel)) (sb_cons (n := 1) hC.1 (tz_ldA _) (so_aload_n 2 (by decide +kernel)) (sb_cons (n := 3) hC.1 (tz_gR _ _) (xgN_1_0 w164 (by decide +kernel)) (sb_cons (n := 1) hC.1 (tz_cI _) (so_iconst (0) (0) (by decide +kernel) (by decide +kernel)) (sb_cons (n := 1) hC.1 (tz_ldA _) (so_aload_n 0 (by decide +kernel)) (sb_cons (n := 3) hC.1 (tz_gR _ _) (xg_2_0 w180 (by decide +kernel)) (sb_cons (n := 1) hC.1 (tz_ldA _) (so_aload_n 0 (by decide +kernel)) (sb_cons (n := 3) hC.1 (tz_gI _ _) (xg_2_1 w182 (by decide +kernel)) (sb_cons (n := 1) hC.1 (tz_ldA _) (so_aload_n 2 (by decide +kernel)) (sb_cons (n := 3) hC.1 (tz_gI _ _) (xgN_1_1 w167 (by decide +kernel)) (sb_cons (n := 3) hC.1 (tz_copy) (xa_copy w667 (by decide +kernel)) (sb_cons (n := 1) hC.1 (tz_ldA _) (so_aload_n 0 (by decide +kernel)) (sb_cons (n := 1) hC.1 (tz_dupR) (so_dupR (by decide +kernel)) (sb_cons (n := 3) hC.1 (tz_gI _ _) (xg_2_1 w182 (by decide +kernel)) (sb_cons (n := 1) hC.1 (tz_ldA _) (so_aload_n 2 (by decide +kernel)) (sb_cons (n := 3) hC.1 (tz_gI _ _) (xgN_1_1 w167 (by decide +kernel)) (sb_cons (n := 1) hC.1 (tz_ii _) (so_iadd (by decide +kernel)) (sb_cons (n := 3) hC.1 (tz_pI _ _) (xp_2_1 w182 (by decide +kernel)) (sb_cons (n := 1) hC.1 (tz_ldA _) (so_aload_n 0 (by decide +kernel)) (sb_cons (n := 3) hC.1 (tz_cvV _ _ _) (xc_222 hC w668 (by decide +kernel)) (sb_nil (tz_vret) (st_vret rfl (by decide +kernel))))))))))))))))))))))))))
theorem xm224 (hC : z_HC l G d z_tb C) : z_SM "QuotaPeers$Page" prog_7_method_9_code 3 false d G l C ((Option.none : Option Jvm.ClassFile.FieldType)) xp224 xP224 := by
  intro b
  match b with
  | 0 => exact xb224_0 hC
  | _ + 1 => exact sb_dead
end
/-! QuotaPeers$Page.octets(I[BII)V -/
def xB225_0 : List z_Op × z_Tm := ([zo_ldA 0, zo_ldI 1, zo_ldI 4, zo_cvV 221 2 2, zo_ldA 2, zo_ldI 3, zo_ldA 0, zo_gR 2 0, zo_ldA 0, zo_gI 2 1, zo_ldI 4, zo_copy, zo_ldA 0, zo_dupR, zo_gI 2 1, zo_ldI 4, zo_ii ((· + ·)), zo_pI 2 1, zo_ldA 0, zo_cvV 222 0 2], zt_vret)
def xp225 : Nat → Nat := fun b => ([0] : List Nat).getD b 0
def xP225 : z_M := fun b => ([xB225_0] : List (List z_Op × z_Tm)).getD b z_dead
section
variable {d : Nat} {G : z_G} {l : Launch} {C : z_O}
theorem xb225_0 (hC : z_HC l G d z_tb C) : z_SB "QuotaPeers$Page" prog_7_method_10_code 5 false d G l C ((Option.none : Option Jvm.ClassFile.FieldType)) xp225 0 xB225_0.1 xB225_0.2 := sb_cons (n := 1) hC.1 (tz_ldA _) (so_aload_n 0 (by decide +kernel)) (sb_cons (n := 1) hC.1 (tz_ldI _) (so_iload_n 1 (by decide +kernel)) (sb_cons (n := 2) hC.1 (tz_ldI _) (so_iload 4 (by decide +kernel)) (sb_cons (n := 3) hC.1 (tz_cvV _ _ _) (xc_221 hC w662 (by decide +kernel)) (sb_cons (n := 1) hC.1 (tz_ldA _) (so_aload_n 2 (by decide +kernel)) (sb_cons (n := 1) hC.1 (tz_ldI _) (so_iload_n 3 (by decide +kernel)) (sb_cons (n := 1) hC.1 (tz_ldA _) (so_aload_n 0 (by decide +kernel)) (sb_cons (n := 3) hC.1 (tz_gR _ _) (xg_2_0 w180 (by decide +kernel)) (sb_cons (n := 1) hC.1 (tz_ldA _) (so_aload_n 0 (by decide +kernel)) (sb_cons (n := 3) hC.1 (tz_gI _ _) (xg_2_1 w182 (by decide +kernel)) (sb_cons (n := 2) hC.1 (tz_ldI _) (so_iload 4 (by decide +kernel)) (sb_cons (n := 3) hC.1 (tz_copy) (xa_copy w667 (by decide +kernel)) (sb_cons (n := 1) hC.1 (tz_ldA _) (so_aload_n 0 (by decide +kernel)) (sb_cons (n := 1) hC.1 (tz_dupR) (so_dupR (by decide +kernel)) (sb_cons (n := 3) hC.1 (tz_gI _ _) (xg_2_1 w182 (by decide +kernel)) (sb_cons (n := 2) hC.1 (tz_ldI _) (so_iload 4 (by decide +kernel)) (sb_cons (n := 1) hC.1 (tz_ii _) (so_iadd (by decide +kernel)) (sb_cons (n := 3) hC.1 (tz_pI _ _) (xp_2_1 w182 (by decide +kernel)) (sb_cons (n := 1) hC.1 (tz_ldA _) (so_aload_n 0 (by decide +kernel)) (sb_cons (n := 3) hC.1 (tz_cvV _ _ _) (xc_222 hC w668 (by decide +kernel)) (sb_nil (tz_vret) (st_vret rfl (by decide +kernel))))))))))))))))))))))
theorem xm225 (hC : z_HC l G d z_tb C) : z_SM "QuotaPeers$Page" prog_7_method_10_code 5 false d G l C ((Option.none : Option Jvm.ClassFile.FieldType)) xp225 xP225 := by
  intro b
  match b with
  | 0 => exact xb225_0 hC
  | _ + 1 => exact sb_dead
end
/-! QuotaPeers$Page.address()V -/
def xB226_0 : List z_Op × z_Tm := ([zo_ldA 0, zo_cI (257), zo_cI (6), zo_cvV 221 2 2, zo_ldA 0, zo_cJ (6425673729), zo_cI (6), zo_cvV 217 2 2, zo_ldA 0, zo_cvV 222 0 2], zt_vret)
def xp226 : Nat → Nat := fun b => ([0] : List Nat).getD b 0
def xP226 : z_M := fun b => ([xB226_0] : List (List z_Op × z_Tm)).getD b z_dead
section
variable {d : Nat} {G : z_G} {l : Launch} {C : z_O}
theorem xb226_0 (hC : z_HC l G d z_tb C) : z_SB "QuotaPeers$Page" prog_7_method_11_code 1 false d G l C ((Option.none : Option Jvm.ClassFile.FieldType)) xp226 0 xB226_0.1 xB226_0.2 := sb_cons (n := 1) hC.1 (tz_ldA _) (so_aload_n 0 (by decide +kernel)) (sb_cons (n := 3) hC.1 (tz_cI _) (so_sipush (257) (257) (by decide +kernel) (by decide +kernel)) (sb_cons (n := 2) hC.1 (tz_cI _) (so_bipush (6) (6) (by decide +kernel) (by decide +kernel)) (sb_cons (n := 3) hC.1 (tz_cvV _ _ _) (xc_221 hC w662 (by decide +kernel)) (sb_cons (n := 1) hC.1 (tz_ldA _) (so_aload_n 0 (by decide +kernel)) (sb_cons (n := 3) hC.1 (tz_cJ _) (so_ldc2 46 (6425673729) w762 (by decide +kernel)) (sb_cons (n := 2) hC.1 (tz_cI _) (so_bipush (6) (6) (by decide +kernel) (by decide +kernel)) (sb_cons (n := 3) hC.1 (tz_cvV _ _ _) (xc_217 hC w654 (by decide +kernel)) (sb_cons (n := 1) hC.1 (tz_ldA _) (so_aload_n 0 (by decide +kernel)) (sb_cons (n := 3) hC.1 (tz_cvV _ _ _) (xc_222 hC w668 (by decide +kernel)) (sb_nil (tz_vret) (st_vret rfl (by decide +kernel))))))))))))
theorem xm226 (hC : z_HC l G d z_tb C) : z_SM "QuotaPeers$Page" prog_7_method_11_code 1 false d G l C ((Option.none : Option Jvm.ClassFile.FieldType)) xp226 xP226 := by
  intro b
  match b with
  | 0 => exact xb226_0 hC
  | _ + 1 => exact sb_dead
end
/-! QuotaPeers$Page.units(IJ)V -/
def xB227_0 : List z_Op × z_Tm := ([zo_ldA 0, zo_ldI 1, zo_cI (16), zo_cvV 221 2 2, zo_ldA 0, zo_cI (421), zo_cI (8), zo_cvV 221 2 2, zo_ldA 0, zo_ldJ 2, zo_cI (8), zo_cvV 217 2 2], zt_vret)
def xp227 : Nat → Nat := fun b => ([0] : List Nat).getD b 0
def xP227 : z_M := fun b => ([xB227_0] : List (List z_Op × z_Tm)).getD b z_dead
section
variable {d : Nat} {G : z_G} {l : Launch} {C : z_O}
theorem xb227_0 (hC : z_HC l G d z_tb C) : z_SB "QuotaPeers$Page" prog_7_method_12_code 4 false d G l C ((Option.none : Option Jvm.ClassFile.FieldType)) xp227 0 xB227_0.1 xB227_0.2 := sb_cons (n := 1) hC.1 (tz_ldA _) (so_aload_n 0 (by decide +kernel)) (sb_cons (n := 1) hC.1 (tz_ldI _) (so_iload_n 1 (by decide +kernel)) (sb_cons (n := 2) hC.1 (tz_cI _) (so_bipush (16) (16) (by decide +kernel) (by decide +kernel)) (sb_cons (n := 3) hC.1 (tz_cvV _ _ _) (xc_221 hC w662 (by decide +kernel)) (sb_cons (n := 1) hC.1 (tz_ldA _) (so_aload_n 0 (by decide +kernel)) (sb_cons (n := 3) hC.1 (tz_cI _) (so_sipush (421) (421) (by decide +kernel) (by decide +kernel)) (sb_cons (n := 2) hC.1 (tz_cI _) (so_bipush (8) (8) (by decide +kernel) (by decide +kernel)) (sb_cons (n := 3) hC.1 (tz_cvV _ _ _) (xc_221 hC w662 (by decide +kernel)) (sb_cons (n := 1) hC.1 (tz_ldA _) (so_aload_n 0 (by decide +kernel)) (sb_cons (n := 1) hC.1 (tz_ldJ _) (so_lload_n 2 (by decide +kernel)) (sb_cons (n := 2) hC.1 (tz_cI _) (so_bipush (8) (8) (by decide +kernel) (by decide +kernel)) (sb_cons (n := 3) hC.1 (tz_cvV _ _ _) (xc_217 hC w654 (by decide +kernel)) (sb_nil (tz_vret) (st_vret rfl (by decide +kernel))))))))))))))
theorem xm227 (hC : z_HC l G d z_tb C) : z_SM "QuotaPeers$Page" prog_7_method_12_code 4 false d G l C ((Option.none : Option Jvm.ClassFile.FieldType)) xp227 xP227 := by
  intro b
  match b with
  | 0 => exact xb227_0 hC
  | _ + 1 => exact sb_dead
end
/-! QuotaPeers$Page.failed(I)V -/
def xB228_0 : List z_Op × z_Tm := ([zo_ldA 0, zo_cI (279), zo_cI (8), zo_cvV 221 2 2, zo_ldA 0, zo_ldI 1, zo_cI (0), zo_cvV 221 2 2], zt_vret)
def xp228 : Nat → Nat := fun b => ([0] : List Nat).getD b 0
def xP228 : z_M := fun b => ([xB228_0] : List (List z_Op × z_Tm)).getD b z_dead
section
variable {d : Nat} {G : z_G} {l : Launch} {C : z_O}
theorem xb228_0 (hC : z_HC l G d z_tb C) : z_SB "QuotaPeers$Page" prog_7_method_13_code 2 false d G l C ((Option.none : Option Jvm.ClassFile.FieldType)) xp228 0 xB228_0.1 xB228_0.2 := sb_cons (n := 1) hC.1 (tz_ldA _) (so_aload_n 0 (by decide +kernel)) (sb_cons (n := 3) hC.1 (tz_cI _) (so_sipush (279) (279) (by decide +kernel) (by decide +kernel)) (sb_cons (n := 2) hC.1 (tz_cI _) (so_bipush (8) (8) (by decide +kernel) (by decide +kernel)) (sb_cons (n := 3) hC.1 (tz_cvV _ _ _) (xc_221 hC w662 (by decide +kernel)) (sb_cons (n := 1) hC.1 (tz_ldA _) (so_aload_n 0 (by decide +kernel)) (sb_cons (n := 1) hC.1 (tz_ldI _) (so_iload_n 1 (by decide +kernel)) (sb_cons (n := 1) hC.1 (tz_cI _) (so_iconst (0) (0) (by decide +kernel) (by decide +kernel)) (sb_cons (n := 3) hC.1 (tz_cvV _ _ _) (xc_221 hC w662 (by decide +kernel)) (sb_nil (tz_vret) (st_vret rfl (by decide +kernel))))))))))
theorem xm228 (hC : z_HC l G d z_tb C) : z_SM "QuotaPeers$Page" prog_7_method_13_code 2 false d G l C ((Option.none : Option Jvm.ClassFile.FieldType)) xp228 xP228 := by
  intro b
  match b with
  | 0 => exact xb228_0 hC
  | _ + 1 => exact sb_dead
end
/-! QuotaPeers$Peer.<init>(IZI)V -/
def xB229_0 : List z_Op × z_Tm := ([zo_ldA 0, zo_obj, zo_ldA 0, zo_new 1, zo_dupR, zo_cvV 238 0 1, zo_pR 9 1, zo_ldA 0, zo_ldI 1, zo_pI 9 0, zo_ldA 0, zo_ldI 2, zo_pZ 9 2, zo_ldA 0, zo_ldI 3, zo_cI (30), zo_ii ((· + ·)), zo_pI 9 12], zt_vret)
def xp229 : Nat → Nat := fun b => ([0] : List Nat).getD b 0
def xP229 : z_M := fun b => ([xB229_0] : List (List z_Op × z_Tm)).getD b z_dead
section
variable {d : Nat} {G : z_G} {l : Launch} {C : z_O}
theorem xb229_0 (hC : z_HC l G d z_tb C) : z_SB "QuotaPeers$Peer" prog_8_method_1_code 4 true d G l C ((Option.none : Option Jvm.ClassFile.FieldType)) xp229 0 xB229_0.1 xB229_0.2 := sb_cons (n := 1) hC.1 (tz_ldA _) (so_aload_n 0 (by decide +kernel)) (sb_cons (n := 3) hC.1 (tz_obj) (so_obj w528 xo_1 xo_2 (by decide +kernel)) (sb_cons (n := 1) hC.1 (tz_ldA _) (so_aload_n 0 (by decide +kernel)) (sb_cons (n := 3) hC.1 (tz_new _) (xn_1 w529 (by decide +kernel)) (sb_cons (n := 1) hC.1 (tz_dupR) (so_dupR (by decide +kernel)) (sb_cons (n := 3) hC.1 (tz_cvV _ _ _) (xcN_238 hC w530 (by decide +kernel)) (sb_cons (n := 3) hC.1 (tz_pR _ _) (xpF_9_1 rfl rfl w533 (by decide +kernel)) (sb_cons (n := 1) hC.1 (tz_ldA _) (so_aload_n 0 (by decide +kernel)) (sb_cons (n := 1) hC.1 (tz_ldI _) (so_iload_n 1 (by decide +kernel)) (sb_cons (n := 3) hC.1 (tz_pI _ _) (xpF_9_0 rfl rfl w531 (by decide +kernel)) (sb_cons (n := 1) hC.1 (tz_ldA _) (so_aload_n 0 (by decide +kernel)) (sb_cons (n := 1) hC.1 (tz_ldI _) (so_iload_n 2 (by decide +kernel)) (sb_cons (n := 3) hC.1 (tz_pZ _ _) (xpF_9_2 rfl rfl w535 (by decide +kernel)) (sb_cons (n := 1) hC.1 (tz_ldA _) (so_aload_n 0 (by decide +kernel)) (sb_cons (n := 1) hC.1 (tz_ldI _) (so_iload_n 3 (by decide +kernel)) (sb_cons (n := 2) hC.1 (tz_cI _) (so_bipush (30) (30) (by decide +kernel) (by decide +kernel)) (sb_cons (n := 1) hC.1 (tz_ii _) (so_iadd (by decide +kernel)) (sb_cons (n := 3) hC.1 (tz_pI _ _) (xp_9_12 w550 (by decide +kernel)) (sb_nil (tz_vret) (st_vret rfl (by decide +kernel))))))))))))))))))))
theorem xm229 (hC : z_HC l G d z_tb C) : z_SM "QuotaPeers$Peer" prog_8_method_1_code 4 true d G l C ((Option.none : Option Jvm.ClassFile.FieldType)) xp229 xP229 := by
  intro b
  match b with
  | 0 => exact xb229_0 hC
  | _ + 1 => exact sb_dead
end
/-! QuotaPeers$Peer.isUp()Z -/
def xB230_0 : List z_Op × z_Tm := ([zo_ldA 0, zo_gI 9 3, zo_cI (5)], zt_icmp (fun x y => x = y) 2 [false] 1 [true])
def xB230_1 : List z_Op × z_Tm := ([zo_ldA 0, zo_gI 9 3, zo_cI (6)], zt_icmp (fun x y => x = y) 2 [false] 3 [false])
def xB230_2 : List z_Op × z_Tm := ([zo_cI (1)], zt_goto 4 [false])
def xB230_3 : List z_Op × z_Tm := ([zo_cI (0)], zt_goto 4 [false])
def xB230_4 : List z_Op × z_Tm := ([], zt_zret)
def xp230 : Nat → Nat := fun b => ([0, 8, 17, 21, 22] : List Nat).getD b 0
def xP230 : z_M := fun b => ([xB230_0, xB230_1, xB230_2, xB230_3, xB230_4] : List (List z_Op × z_Tm)).getD b z_dead
section
variable {d : Nat} {G : z_G} {l : Launch} {C : z_O}
theorem xb230_0 (hC : z_HC l G d z_tb C) : z_SB "QuotaPeers$Peer" prog_8_method_2_code 1 false d G l C ((Option.some Jvm.ClassFile.FieldType.boolean)) xp230 0 xB230_0.1 xB230_0.2 := sb_cons (n := 1) hC.1 (tz_ldA _) (so_aload_n 0 (by decide +kernel)) (sb_cons (n := 3) hC.1 (tz_gI _ _) (xg_9_3 w537 (by decide +kernel)) (sb_cons (n := 1) hC.1 (tz_cI _) (so_iconst (5) (5) (by decide +kernel) (by decide +kernel)) (sb_nil (tz_icmp _ _ _ _ _) (st_icmp_eq (off := 12) (by decide) (by decide) (by decide +kernel)))))
theorem xb230_1 (hC : z_HC l G d z_tb C) : z_SB "QuotaPeers$Peer" prog_8_method_2_code 1 false d G l C ((Option.some Jvm.ClassFile.FieldType.boolean)) xp230 8 xB230_1.1 xB230_1.2 := sb_cons (n := 1) hC.1 (tz_ldA _) (so_aload_n 0 (by decide +kernel)) (sb_cons (n := 3) hC.1 (tz_gI _ _) (xg_9_3 w537 (by decide +kernel)) (sb_cons (n := 2) hC.1 (tz_cI _) (so_bipush (6) (6) (by decide +kernel) (by decide +kernel)) (sb_nil (tz_icmp _ _ _ _ _) (st_icmp_ne (off := 7) (by decide) (by decide) (by decide +kernel)))))
theorem xb230_2 (hC : z_HC l G d z_tb C) : z_SB "QuotaPeers$Peer" prog_8_method_2_code 1 false d G l C ((Option.some Jvm.ClassFile.FieldType.boolean)) xp230 17 xB230_2.1 xB230_2.2 := sb_cons (n := 1) hC.1 (tz_cI _) (so_iconst (1) (1) (by decide +kernel) (by decide +kernel)) (sb_nil (tz_goto _ _) (st_goto (off := 4) (by decide) (by decide +kernel)))
theorem xb230_3 (hC : z_HC l G d z_tb C) : z_SB "QuotaPeers$Peer" prog_8_method_2_code 1 false d G l C ((Option.some Jvm.ClassFile.FieldType.boolean)) xp230 21 xB230_3.1 xB230_3.2 := sb_cons (n := 1) hC.1 (tz_cI _) (so_iconst (0) (0) (by decide +kernel) (by decide +kernel)) (sb_nil (tz_goto _ _) (st_fall (by decide)))
theorem xb230_4 (hC : z_HC l G d z_tb C) : z_SB "QuotaPeers$Peer" prog_8_method_2_code 1 false d G l C ((Option.some Jvm.ClassFile.FieldType.boolean)) xp230 22 xB230_4.1 xB230_4.2 := sb_nil (tz_zret) (st_zret rfl (by decide +kernel))
theorem xm230 (hC : z_HC l G d z_tb C) : z_SM "QuotaPeers$Peer" prog_8_method_2_code 1 false d G l C ((Option.some Jvm.ClassFile.FieldType.boolean)) xp230 xP230 := by
  intro b
  match b with
  | 0 => exact xb230_0 hC
  | 1 => exact xb230_1 hC
  | 2 => exact xb230_2 hC
  | 3 => exact xb230_3 hC
  | 4 => exact xb230_4 hC
  | _ + 5 => exact sb_dead
end
/-! QuotaPeers$Peer.isUsable()Z -/
def xB231_0 : List z_Op × z_Tm := ([zo_ldA 0, zo_crV 230 0 9], zt_if (fun x => x = 0) 3 [false] 1 [true])
def xB231_1 : List z_Op × z_Tm := ([zo_ldA 0, zo_gI 9 10, zo_cI (1)], zt_icmp (fun x y => x = y) 2 [false] 3 [false])
def xB231_2 : List z_Op × z_Tm := ([zo_cI (1)], zt_goto 4 [false])
def xB231_3 : List z_Op × z_Tm := ([zo_cI (0)], zt_goto 4 [false])
def xB231_4 : List z_Op × z_Tm := ([], zt_zret)
def xp231 : Nat → Nat := fun b => ([0, 7, 15, 19, 20] : List Nat).getD b 0
def xP231 : z_M := fun b => ([xB231_0, xB231_1, xB231_2, xB231_3, xB231_4] : List (List z_Op × z_Tm)).getD b z_dead
section
variable {d : Nat} {G : z_G} {l : Launch} {C : z_O}
theorem xb231_0 (hC : z_HC l G d z_tb C) : z_SB "QuotaPeers$Peer" prog_8_method_3_code 1 false d G l C ((Option.some Jvm.ClassFile.FieldType.boolean)) xp231 0 xB231_0.1 xB231_0.2 := sb_cons (n := 1) hC.1 (tz_ldA _) (so_aload_n 0 (by decide +kernel)) (sb_cons (n := 3) hC.1 (tz_crV _ _ _) (xc_230 hC w641 (by decide +kernel)) (sb_nil (tz_if _ _ _ _ _) (st_if_eq (off := 15) (by decide) (by decide) (by decide +kernel))))
theorem xb231_1 (hC : z_HC l G d z_tb C) : z_SB "QuotaPeers$Peer" prog_8_method_3_code 1 false d G l C ((Option.some Jvm.ClassFile.FieldType.boolean)) xp231 7 xB231_1.1 xB231_1.2 := sb_cons (n := 1) hC.1 (tz_ldA _) (so_aload_n 0 (by decide +kernel)) (sb_cons (n := 3) hC.1 (tz_gI _ _) (xg_9_10 w547 (by decide +kernel)) (sb_cons (n := 1) hC.1 (tz_cI _) (so_iconst (1) (1) (by decide +kernel) (by decide +kernel)) (sb_nil (tz_icmp _ _ _ _ _) (st_icmp_ne (off := 7) (by decide) (by decide) (by decide +kernel)))))
theorem xb231_2 (hC : z_HC l G d z_tb C) : z_SB "QuotaPeers$Peer" prog_8_method_3_code 1 false d G l C ((Option.some Jvm.ClassFile.FieldType.boolean)) xp231 15 xB231_2.1 xB231_2.2 := sb_cons (n := 1) hC.1 (tz_cI _) (so_iconst (1) (1) (by decide +kernel) (by decide +kernel)) (sb_nil (tz_goto _ _) (st_goto (off := 4) (by decide) (by decide +kernel)))
theorem xb231_3 (hC : z_HC l G d z_tb C) : z_SB "QuotaPeers$Peer" prog_8_method_3_code 1 false d G l C ((Option.some Jvm.ClassFile.FieldType.boolean)) xp231 19 xB231_3.1 xB231_3.2 := sb_cons (n := 1) hC.1 (tz_cI _) (so_iconst (0) (0) (by decide +kernel) (by decide +kernel)) (sb_nil (tz_goto _ _) (st_fall (by decide)))
theorem xb231_4 (hC : z_HC l G d z_tb C) : z_SB "QuotaPeers$Peer" prog_8_method_3_code 1 false d G l C ((Option.some Jvm.ClassFile.FieldType.boolean)) xp231 20 xB231_4.1 xB231_4.2 := sb_nil (tz_zret) (st_zret rfl (by decide +kernel))
theorem xm231 (hC : z_HC l G d z_tb C) : z_SM "QuotaPeers$Peer" prog_8_method_3_code 1 false d G l C ((Option.some Jvm.ClassFile.FieldType.boolean)) xp231 xP231 := by
  intro b
  match b with
  | 0 => exact xb231_0 hC
  | 1 => exact xb231_1 hC
  | 2 => exact xb231_2 hC
  | 3 => exact xb231_3 hC
  | 4 => exact xb231_4 hC
  | _ + 5 => exact sb_dead
end
/-! QuotaPeers$Peer.link()LQuotaPeers$Link; -/
def xB232_0 : List z_Op × z_Tm := ([zo_ldA 0, zo_gI 9 3, zo_cI (6)], zt_icmp (fun x y => x = y) 3 [true] 1 [true])
def xB232_1 : List z_Op × z_Tm := ([zo_ldA 0, zo_gI 9 3, zo_cI (7)], zt_icmp (fun x y => x = y) 2 [true] 4 [true])
def xB232_2 : List z_Op × z_Tm := ([zo_ldA 0, zo_gR 9 5], zt_null 4 [true] 3 [true])
def xB232_3 : List z_Op × z_Tm := ([zo_ldA 0, zo_gR 9 5], zt_goto 5 [false])
def xB232_4 : List z_Op × z_Tm := ([zo_ldA 0, zo_gR 9 6], zt_goto 5 [false])
def xB232_5 : List z_Op × z_Tm := ([], zt_aret)
def xp232 : Nat → Nat := fun b => ([0, 9, 18, 25, 32, 36] : List Nat).getD b 0
def xP232 : z_M := fun b => ([xB232_0, xB232_1, xB232_2, xB232_3, xB232_4, xB232_5] : List (List z_Op × z_Tm)).getD b z_dead
section
variable {d : Nat} {G : z_G} {l : Launch} {C : z_O}
theorem xb232_0 (hC : z_HC l G d z_tb C) : z_SB "QuotaPeers$Peer" prog_8_method_4_code 1 false d G l C ((Option.some (Jvm.ClassFile.FieldType.object "QuotaPeers$Link"))) xp232 0 xB232_0.1 xB232_0.2 := sb_cons (n := 1) hC.1 (tz_ldA _) (so_aload_n 0 (by decide +kernel)) (sb_cons (n := 3) hC.1 (tz_gI _ _) (xg_9_3 w537 (by decide +kernel)) (sb_cons (n := 2) hC.1 (tz_cI _) (so_bipush (6) (6) (by decide +kernel) (by decide +kernel)) (sb_nil (tz_icmp _ _ _ _ _) (st_icmp_eq (off := 19) (by decide) (by decide) (by decide +kernel)))))
theorem xb232_1 (hC : z_HC l G d z_tb C) : z_SB "QuotaPeers$Peer" prog_8_method_4_code 1 false d G l C ((Option.some (Jvm.ClassFile.FieldType.object "QuotaPeers$Link"))) xp232 9 xB232_1.1 xB232_1.2 := sb_cons (n := 1) hC.1 (tz_ldA _) (so_aload_n 0 (by decide +kernel)) (sb_cons (n := 3) hC.1 (tz_gI _ _) (xg_9_3 w537 (by decide +kernel)) (sb_cons (n := 2) hC.1 (tz_cI _) (so_bipush (7) (7) (by decide +kernel) (by decide +kernel)) (sb_nil (tz_icmp _ _ _ _ _) (st_icmp_ne (off := 17) (by decide) (by decide) (by decide +kernel)))))
theorem xb232_2 (hC : z_HC l G d z_tb C) : z_SB "QuotaPeers$Peer" prog_8_method_4_code 1 false d G l C ((Option.some (Jvm.ClassFile.FieldType.object "QuotaPeers$Link"))) xp232 18 xB232_2.1 xB232_2.2 := sb_cons (n := 1) hC.1 (tz_ldA _) (so_aload_n 0 (by decide +kernel)) (sb_cons (n := 3) hC.1 (tz_gR _ _) (xg_9_5 w540 (by decide +kernel)) (sb_nil (tz_nul _ _ _ _) (st_ifnull (off := 10) (by decide) (by decide) (by decide +kernel))))
theorem xb232_3 (hC : z_HC l G d z_tb C) : z_SB "QuotaPeers$Peer" prog_8_method_4_code 1 false d G l C ((Option.some (Jvm.ClassFile.FieldType.object "QuotaPeers$Link"))) xp232 25 xB232_3.1 xB232_3.2 := sb_cons (n := 1) hC.1 (tz_ldA _) (so_aload_n 0 (by decide +kernel)) (sb_cons (n := 3) hC.1 (tz_gR _ _) (xg_9_5 w540 (by decide +kernel)) (sb_nil (tz_goto _ _) (st_goto (off := 7) (by decide) (by decide +kernel))))
theorem xb232_4 (hC : z_HC l G d z_tb C) : z_SB "QuotaPeers$Peer" prog_8_method_4_code 1 false d G l C ((Option.some (Jvm.ClassFile.FieldType.object "QuotaPeers$Link"))) xp232 32 xB232_4.1 xB232_4.2 := sb_cons (n := 1) hC.1 (tz_ldA _) (so_aload_n 0 (by decide +kernel)) (sb_cons (n := 3) hC.1 (tz_gR _ _) (xg_9_6 w542 (by decide +kernel)) (sb_nil (tz_goto _ _) (st_fall (by decide))))
theorem xb232_5 (hC : z_HC l G d z_tb C) : z_SB "QuotaPeers$Peer" prog_8_method_4_code 1 false d G l C ((Option.some (Jvm.ClassFile.FieldType.object "QuotaPeers$Link"))) xp232 36 xB232_5.1 xB232_5.2 := sb_nil (tz_aret) (st_aret rfl (by decide +kernel))
theorem xm232 (hC : z_HC l G d z_tb C) : z_SM "QuotaPeers$Peer" prog_8_method_4_code 1 false d G l C ((Option.some (Jvm.ClassFile.FieldType.object "QuotaPeers$Link"))) xp232 xP232 := by
  intro b
  match b with
  | 0 => exact xb232_0 hC
  | 1 => exact xb232_1 hC
  | 2 => exact xb232_2 hC
  | 3 => exact xb232_3 hC
  | 4 => exact xb232_4 hC
  | 5 => exact xb232_5 hC
  | _ + 6 => exact sb_dead
end
/-! QuotaPeers$Peer.isGivenTime()Z -/
def xB233_0 : List z_Op × z_Tm := ([zo_ldA 0, zo_gI 9 3], zt_if (fun x => x = 0) 3 [false] 1 [true])
def xB233_1 : List z_Op × z_Tm := ([zo_ldA 0, zo_crV 230 0 9], zt_if (fun x => x = 0) 2 [false] 3 [false])
def xB233_2 : List z_Op × z_Tm := ([zo_cI (1)], zt_goto 4 [false])
def xB233_3 : List z_Op × z_Tm := ([zo_cI (0)], zt_goto 4 [false])
def xB233_4 : List z_Op × z_Tm := ([], zt_zret)
def xp233 : Nat → Nat := fun b => ([0, 7, 14, 18, 19] : List Nat).getD b 0
def xP233 : z_M := fun b => ([xB233_0, xB233_1, xB233_2, xB233_3, xB233_4] : List (List z_Op × z_Tm)).getD b z_dead
section
variable {d : Nat} {G : z_G} {l : Launch} {C : z_O}
theorem xb233_0 (hC : z_HC l G d z_tb C) : z_SB "QuotaPeers$Peer" prog_8_method_5_code 1 false d G l C ((Option.some Jvm.ClassFile.FieldType.boolean)) xp233 0 xB233_0.1 xB233_0.2 := sb_cons (n := 1) hC.1 (tz_ldA _) (so_aload_n 0 (by decide +kernel)) (sb_cons (n := 3) hC.1 (tz_gI _ _) (xg_9_3 w537 (by decide +kernel)) (sb_nil (tz_if _ _ _ _ _) (st_if_eq (off := 14) (by decide) (by decide) (by decide +kernel))))
theorem xb233_1 (hC : z_HC l G d z_tb C) : z_SB "QuotaPeers$Peer" prog_8_method_5_code 1 false d G l C ((Option.some Jvm.ClassFile.FieldType.boolean)) xp233 7 xB233_1.1 xB233_1.2 := sb_cons (n := 1) hC.1 (tz_ldA _) (so_aload_n 0 (by decide +kernel)) (sb_cons (n := 3) hC.1 (tz_crV _ _ _) (xc_230 hC w641 (by decide +kernel)) (sb_nil (tz_if _ _ _ _ _) (st_if_ne (off := 7) (by decide) (by decide) (by decide +kernel))))
theorem xb233_2 (hC : z_HC l G d z_tb C) : z_SB "QuotaPeers$Peer" prog_8_method_5_code 1 false d G l C ((Option.some Jvm.ClassFile.FieldType.boolean)) xp233 14 xB233_2.1 xB233_2.2 := sb_cons (n := 1) hC.1 (tz_cI _) (so_iconst (1) (1) (by decide +kernel) (by decide +kernel)) (sb_nil (tz_goto _ _) (st_goto (off := 4) (by decide) (by decide +kernel)))
theorem xb233_3 (hC : z_HC l G d z_tb C) : z_SB "QuotaPeers$Peer" prog_8_method_5_code 1 false d G l C ((Option.some Jvm.ClassFile.FieldType.boolean)) xp233 18 xB233_3.1 xB233_3.2 := sb_cons (n := 1) hC.1 (tz_cI _) (so_iconst (0) (0) (by decide +kernel) (by decide +kernel)) (sb_nil (tz_goto _ _) (st_fall (by decide)))
theorem xb233_4 (hC : z_HC l G d z_tb C) : z_SB "QuotaPeers$Peer" prog_8_method_5_code 1 false d G l C ((Option.some Jvm.ClassFile.FieldType.boolean)) xp233 19 xB233_4.1 xB233_4.2 := sb_nil (tz_zret) (st_zret rfl (by decide +kernel))
theorem xm233 (hC : z_HC l G d z_tb C) : z_SM "QuotaPeers$Peer" prog_8_method_5_code 1 false d G l C ((Option.some Jvm.ClassFile.FieldType.boolean)) xp233 xP233 := by
  intro b
  match b with
  | 0 => exact xb233_0 hC
  | 1 => exact xb233_1 hC
  | 2 => exact xb233_2 hC
  | 3 => exact xb233_3 hC
  | 4 => exact xb233_4 hC
  | _ + 5 => exact sb_dead
end
/-! QuotaPeers$Question.<init>()V -/
def xB234_0 : List z_Op × z_Tm := ([zo_ldA 0, zo_obj, zo_ldA 0, zo_new 1, zo_dupR, zo_cvV 238 0 1, zo_pR 6 0, zo_ldA 0, zo_new 1, zo_dupR, zo_cvV 238 0 1, zo_pR 6 1, zo_ldA 0, zo_new 1, zo_dupR, zo_cvV 238 0 1, zo_pR 6 2], zt_vret)
def xp234 : Nat → Nat := fun b => ([0] : List Nat).getD b 0
def xP234 : z_M := fun b => ([xB234_0] : List (List z_Op × z_Tm)).getD b z_dead
section
variable {d : Nat} {G : z_G} {l : Launch} {C : z_O}
theorem xb234_0 (hC : z_HC l G d z_tb C) : z_SB "QuotaPeers$Question" prog_9_method_1_code 1 true d G l C ((Option.none : Option Jvm.ClassFile.FieldType)) xp234 0 xB234_0.1 xB234_0.2 := sb_cons (n := 1) hC.1 (tz_ldA _) (so_aload_n 0 (by decide +kernel)) (sb_cons (n := 3) hC.1 (tz_obj) (so_obj w373 xo_1 xo_2 (by decide +kernel)) (sb_cons (n := 1) hC.1 (tz_ldA _) (so_aload_n 0 (by decide +kernel)) (sb_cons (n := 3) hC.1 (tz_new _) (xn_1 w374 (by decide +kernel)) (sb_cons (n := 1) hC.1 (tz_dupR) (so_dupR (by decide +kernel)) (sb_cons (n := 3) hC.1 (tz_cvV _ _ _) (xcN_238 hC w375 (by decide +kernel)) (sb_cons (n := 3) hC.1 (tz_pR _ _) (xpF_6_0 rfl rfl w376 (by decide +kernel)) (sb_cons (n := 1) hC.1 (tz_ldA _) (so_aload_n 0 (by decide +kernel)) (sb_cons (n := 3) hC.1 (tz_new _) (xn_1 w374 (by decide +kernel)) (sb_cons (n := 1) hC.1 (tz_dupR) (so_dupR (by decide +kernel)) (sb_cons (n := 3) hC.1 (tz_cvV _ _ _) (xcN_238 hC w375 (by decide +kernel)) (sb_cons (n := 3) hC.1 (tz_pR _ _) (xpF_6_1 rfl rfl w378 (by decide +kernel)) (sb_cons (n := 1) hC.1 (tz_ldA _) (so_aload_n 0 (by decide +kernel)) (sb_cons (n := 3) hC.1 (tz_new _) (xn_1 w374 (by decide +kernel)) (sb_cons (n := 1) hC.1 (tz_dupR) (so_dupR (by decide +kernel)) (sb_cons (n := 3) hC.1 (tz_cvV _ _ _) (xcN_238 hC w375 (by decide +kernel)) (sb_cons (n := 3) hC.1 (tz_pR _ _) (xpF_6_2 rfl rfl w380 (by decide +kernel)) (sb_nil (tz_vret) (st_vret rfl (by decide +kernel)))))))))))))))))))
theorem xm234 (hC : z_HC l G d z_tb C) : z_SM "QuotaPeers$Question" prog_9_method_1_code 1 true d G l C ((Option.none : Option Jvm.ClassFile.FieldType)) xp234 xP234 := by
  intro b
  match b with
  | 0 => exact xb234_0 hC
  | _ + 1 => exact sb_dead
end
/-! QuotaPeers$Session.<init>()V -/
def xB235_0 : List z_Op × z_Tm := ([zo_ldA 0, zo_obj, zo_ldA 0, zo_new 1, zo_dupR, zo_cvV 238 0 1, zo_pR 5 0, zo_ldA 0, zo_new 1, zo_dupR, zo_cvV 238 0 1, zo_pR 5 1, zo_ldA 0, zo_new 1, zo_dupR, zo_cvV 238 0 1, zo_pR 5 2], zt_vret)
def xp235 : Nat → Nat := fun b => ([0] : List Nat).getD b 0
def xP235 : z_M := fun b => ([xB235_0] : List (List z_Op × z_Tm)).getD b z_dead
section
variable {d : Nat} {G : z_G} {l : Launch} {C : z_O}
theorem xb235_0 (hC : z_HC l G d z_tb C) : z_SB "QuotaPeers$Session" prog_10_method_1_code 1 true d G l C ((Option.none : Option Jvm.ClassFile.FieldType)) xp235 0 xB235_0.1 xB235_0.2 := sb_cons (n := 1) hC.1 (tz_ldA _) (so_aload_n 0 (by decide +kernel)) (sb_cons (n := 3) hC.1 (tz_obj) (so_obj w336 xo_1 xo_2 (by decide +kernel)) (sb_cons (n := 1) hC.1 (tz_ldA _) (so_aload_n 0 (by decide +kernel)) (sb_cons (n := 3) hC.1 (tz_new _) (xn_1 w337 (by decide +kernel)) (sb_cons (n := 1) hC.1 (tz_dupR) (so_dupR (by decide +kernel)) (sb_cons (n := 3) hC.1 (tz_cvV _ _ _) (xcN_238 hC w338 (by decide +kernel)) (sb_cons (n := 3) hC.1 (tz_pR _ _) (xpF_5_0 rfl rfl w339 (by decide +kernel)) (sb_cons (n := 1) hC.1 (tz_ldA _) (so_aload_n 0 (by decide +kernel)) (sb_cons (n := 3) hC.1 (tz_new _) (xn_1 w337 (by decide +kernel)) (sb_cons (n := 1) hC.1 (tz_dupR) (so_dupR (by decide +kernel)) (sb_cons (n := 3) hC.1 (tz_cvV _ _ _) (xcN_238 hC w338 (by decide +kernel)) (sb_cons (n := 3) hC.1 (tz_pR _ _) (xpF_5_1 rfl rfl w341 (by decide +kernel)) (sb_cons (n := 1) hC.1 (tz_ldA _) (so_aload_n 0 (by decide +kernel)) (sb_cons (n := 3) hC.1 (tz_new _) (xn_1 w337 (by decide +kernel)) (sb_cons (n := 1) hC.1 (tz_dupR) (so_dupR (by decide +kernel)) (sb_cons (n := 3) hC.1 (tz_cvV _ _ _) (xcN_238 hC w338 (by decide +kernel)) (sb_cons (n := 3) hC.1 (tz_pR _ _) (xpF_5_2 rfl rfl w343 (by decide +kernel)) (sb_nil (tz_vret) (st_vret rfl (by decide +kernel)))))))))))))))))))
theorem xm235 (hC : z_HC l G d z_tb C) : z_SM "QuotaPeers$Session" prog_10_method_1_code 1 true d G l C ((Option.none : Option Jvm.ClassFile.FieldType)) xp235 xP235 := by
  intro b
  match b with
  | 0 => exact xb235_0 hC
  | _ + 1 => exact sb_dead
end
/-! QuotaPeers$Session.settle(J)V -/
def xB236_0 : List z_Op × z_Tm := ([zo_ldA 0, zo_gR 5 3, zo_ldJ 1, zo_ldA 0, zo_gJ 5 4, zo_minJ, zo_cvV 188 1 10, zo_ldA 0, zo_gR 5 3, zo_dupR, zo_gJ 10 2, zo_ldA 0, zo_gJ 5 4, zo_jj (· - ·), zo_pJ 10 2, zo_ldA 0, zo_cJ (0), zo_pJ 5 4], zt_vret)
def xp236 : Nat → Nat := fun b => ([0] : List Nat).getD b 0
def xP236 : z_M := fun b => ([xB236_0] : List (List z_Op × z_Tm)).getD b z_dead
section
variable {d : Nat} {G : z_G} {l : Launch} {C : z_O}
theorem xb236_0 (hC : z_HC l G d z_tb C) : z_SB "QuotaPeers$Session" prog_10_method_2_code 3 false d G l C ((Option.none : Option Jvm.ClassFile.FieldType)) xp236 0 xB236_0.1 xB236_0.2 := sb_cons (n := 1) hC.1 (tz_ldA _) (so_aload_n 0 (by decide +kernel)) (sb_cons (n := 3) hC.1 (tz_gR _ _) (xg_5_3 w345 (by decide +kernel)) (sb_cons (n := 1) hC.1 (tz_ldJ _) (so_lload_n 1 (by decide +kernel)) (sb_cons (n := 1) hC.1 (tz_ldA _) (so_aload_n 0 (by decide +kernel)) (sb_cons (n := 3) hC.1 (tz_gJ _ _) (xg_5_4 w347 (by decide +kernel)) (sb_cons (n := 3) hC.1 (tz_minJ) (xm_min w1002 (by decide +kernel)) (sb_cons (n := 3) hC.1 (tz_cvV _ _ _) (xc_188 hC w1014 (by decide +kernel)) (sb_cons (n := 1) hC.1 (tz_ldA _) (so_aload_n 0 (by decide +kernel)) (sb_cons (n := 3) hC.1 (tz_gR _ _) (xg_5_3 w345 (by decide +kernel)) (sb_cons (n := 1) hC.1 (tz_dupR) (so_dupR (by decide +kernel)) (sb_cons (n := 3) hC.1 (tz_gJ _ _) (xgN_10_2 w1103 (by decide +kernel)) (sb_cons (n := 1) hC.1 (tz_ldA _) (so_aload_n 0 (by decide +kernel)) (sb_cons (n := 3) hC.1 (tz_gJ _ _) (xg_5_4 w347 (by decide +kernel)) (sb_cons (n := 1) hC.1 (tz_jj _) (so_lsub (by decide +kernel)) (sb_cons (n := 3) hC.1 (tz_pJ _ _) (xpN_10_2 w1103 (by decide +kernel)) (sb_cons (n := 1) hC.1 (tz_ldA _) (so_aload_n 0 (by decide +kernel)) (sb_cons (n := 1) hC.1 (tz_cJ _) (so_lconst 0 (0) (by decide +kernel) (by decide +kernel)) (sb_cons (n := 3) hC.1 (tz_pJ _ _) (xp_5_4 w347 (by decide +kernel)) (sb_nil (tz_vret) (st_vret rfl (by decide +kernel))))))))))))))))))))
theorem xm236 (hC : z_HC l G d z_tb C) : z_SM "QuotaPeers$Session" prog_10_method_2_code 3 false d G l C ((Option.none : Option Jvm.ClassFile.FieldType)) xp236 xP236 := by
  intro b
  match b with
  | 0 => exact xb236_0 hC
  | _ + 1 => exact sb_dead
end
/-! QuotaPeers$Session.reserve(J)V -/
def xB237_0 : List z_Op × z_Tm := ([zo_ldA 0, zo_ldJ 1, zo_ldA 0, zo_gR 5 3, zo_crV 187 0 10, zo_minJ, zo_pJ 5 4, zo_ldA 0, zo_gR 5 3, zo_dupR, zo_gJ 10 2, zo_ldA 0, zo_gJ 5 4, zo_jj (· + ·), zo_pJ 10 2], zt_vret)
def xp237 : Nat → Nat := fun b => ([0] : List Nat).getD b 0
def xP237 : z_M := fun b => ([xB237_0] : List (List z_Op × z_Tm)).getD b z_dead
section
variable {d : Nat} {G : z_G} {l : Launch} {C : z_O}
theorem xb237_0 (hC : z_HC l G d z_tb C) : z_SB "QuotaPeers$Session" prog_10_method_3_code 3 false d G l C ((Option.none : Option Jvm.ClassFile.FieldType)) xp237 0 xB237_0.1 xB237_0.2 := sb_cons (n := 1) hC.1 (tz_ldA _) (so_aload_n 0 (by decide +kernel)) (sb_cons (n := 1) hC.1 (tz_ldJ _) (so_lload_n 1 (by decide +kernel)) (sb_cons (n := 1) hC.1 (tz_ldA _) (so_aload_n 0 (by decide +kernel)) (sb_cons (n := 3) hC.1 (tz_gR _ _) (xg_5_3 w345 (by decide +kernel)) (sb_cons (n := 3) hC.1 (tz_crV _ _ _) (xc_187 hC w1001 (by decide +kernel)) (sb_cons (n := 3) hC.1 (tz_minJ) (xm_min w1002 (by decide +kernel)) (sb_cons (n := 3) hC.1 (tz_pJ _ _) (xp_5_4 w347 (by decide +kernel)) (sb_cons (n := 1) hC.1 (tz_ldA _) (so_aload_n 0 (by decide +kernel)) (sb_cons (n := 3) hC.1 (tz_gR _ _) (xg_5_3 w345 (by decide +kernel)) (sb_cons (n := 1) hC.1 (tz_dupR) (so_dupR (by decide +kernel)) (sb_cons (n := 3) hC.1 (tz_gJ _ _) (xgN_10_2 w1103 (by decide +kernel)) (sb_cons (n := 1) hC.1 (tz_ldA _) (so_aload_n 0 (by decide +kernel)) (sb_cons (n := 3) hC.1 (tz_gJ _ _) (xg_5_4 w347 (by decide +kernel)) (sb_cons (n := 1) hC.1 (tz_jj _) (so_ladd (by decide +kernel)) (sb_cons (n := 3) hC.1 (tz_pJ _ _) (xpN_10_2 w1103 (by decide +kernel)) (sb_nil (tz_vret) (st_vret rfl (by decide +kernel)))))))))))))))))
theorem xm237 (hC : z_HC l G d z_tb C) : z_SM "QuotaPeers$Session" prog_10_method_3_code 3 false d G l C ((Option.none : Option Jvm.ClassFile.FieldType)) xp237 xP237 := by
  intro b
  match b with
  | 0 => exact xb237_0 hC
  | _ + 1 => exact sb_dead
end
