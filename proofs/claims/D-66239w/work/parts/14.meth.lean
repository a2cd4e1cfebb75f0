/-! 14.meth.lean.txt (printed by wip/gen/gen13.py): methods 0 .. 34 -/
set_option maxRecDepth 100000
/-! QuotaPeers.isLetter(I)Z -/
def xB0_0 : List z_Op × z_Tm := ([zo_ldI 0, zo_cI (97)], zt_icmp (fun x y => x < y) 2 [true] 1 [true])
def xB0_1 : List z_Op × z_Tm := ([zo_ldI 0, zo_cI (122)], zt_icmp (fun x y => x ≤ y) 6 [false] 2 [true])
def xB0_2 : List z_Op × z_Tm := ([zo_ldI 0, zo_cI (48)], zt_icmp (fun x y => x < y) 4 [true] 3 [true])
def xB0_3 : List z_Op × z_Tm := ([zo_ldI 0, zo_cI (57)], zt_icmp (fun x y => x ≤ y) 6 [false] 4 [true])
def xB0_4 : List z_Op × z_Tm := ([zo_ldI 0, zo_cI (46)], zt_icmp (fun x y => x = y) 6 [false] 5 [true])
def xB0_5 : List z_Op × z_Tm := ([zo_ldI 0, zo_cI (45)], zt_icmp (fun x y => x = y) 6 [false] 7 [false])
def xB0_6 : List z_Op × z_Tm := ([zo_cI (1)], zt_goto 8 [false])
def xB0_7 : List z_Op × z_Tm := ([zo_cI (0)], zt_goto 8 [false])
def xB0_8 : List z_Op × z_Tm := ([], zt_zret)
def xp0 : Nat → Nat := fun b => ([0, 6, 12, 18, 24, 30, 36, 40, 41] : List Nat).getD b 0
def xP0 : z_M := fun b => ([xB0_0, xB0_1, xB0_2, xB0_3, xB0_4, xB0_5, xB0_6, xB0_7, xB0_8] : List (List z_Op × z_Tm)).getD b z_dead
section
variable {d : Nat} {G : z_G} {l : Launch} {C : z_O}
theorem xb0_0 (hC : z_HC l G d z_tb C) : z_SB "QuotaPeers" prog_1_method_1_code 1 false d G l C ((Option.some Jvm.ClassFile.FieldType.boolean)) xp0 0 xB0_0.1 xB0_0.2 := sb_cons (n := 1) hC.1 (tz_ldI _) (so_iload_n 0 (by decide +kernel)) (sb_cons (n := 2) hC.1 (tz_cI _) (so_bipush (97) (97) (by decide +kernel) (by decide +kernel)) (sb_nil (tz_icmp _ _ _ _ _) (st_icmp_lt (off := 9) (by decide) (by decide) (by decide +kernel))))
theorem xb0_1 (hC : z_HC l G d z_tb C) : z_SB "QuotaPeers" prog_1_method_1_code 1 false d G l C ((Option.some Jvm.ClassFile.FieldType.boolean)) xp0 6 xB0_1.1 xB0_1.2 := sb_cons (n := 1) hC.1 (tz_ldI _) (so_iload_n 0 (by decide +kernel)) (sb_cons (n := 2) hC.1 (tz_cI _) (so_bipush (122) (122) (by decide +kernel) (by decide +kernel)) (sb_nil (tz_icmp _ _ _ _ _) (st_icmp_le (off := 27) (by decide) (by decide) (by decide +kernel))))
theorem xb0_2 (hC : z_HC l G d z_tb C) : z_SB "QuotaPeers" prog_1_method_1_code 1 false d G l C ((Option.some Jvm.ClassFile.FieldType.boolean)) xp0 12 xB0_2.1 xB0_2.2 := sb_cons (n := 1) hC.1 (tz_ldI _) (so_iload_n 0 (by decide +kernel)) (sb_cons (n := 2) hC.1 (tz_cI _) (so_bipush (48) (48) (by decide +kernel) (by decide +kernel)) (sb_nil (tz_icmp _ _ _ _ _) (st_icmp_lt (off := 9) (by decide) (by decide) (by decide +kernel))))
theorem xb0_3 (hC : z_HC l G d z_tb C) : z_SB "QuotaPeers" prog_1_method_1_code 1 false d G l C ((Option.some Jvm.ClassFile.FieldType.boolean)) xp0 18 xB0_3.1 xB0_3.2 := sb_cons (n := 1) hC.1 (tz_ldI _) (so_iload_n 0 (by decide +kernel)) (sb_cons (n := 2) hC.1 (tz_cI _) (so_bipush (57) (57) (by decide +kernel) (by decide +kernel)) (sb_nil (tz_icmp _ _ _ _ _) (st_icmp_le (off := 15) (by decide) (by decide) (by decide +kernel))))
theorem xb0_4 (hC : z_HC l G d z_tb C) : z_SB "QuotaPeers" prog_1_method_1_code 1 false d G l C ((Option.some Jvm.ClassFile.FieldType.boolean)) xp0 24 xB0_4.1 xB0_4.2 := sb_cons (n := 1) hC.1 (tz_ldI _) (so_iload_n 0 (by decide +kernel)) (sb_cons (n := 2) hC.1 (tz_cI _) (so_bipush (46) (46) (by decide +kernel) (by decide +kernel)) (sb_nil (tz_icmp _ _ _ _ _) (st_icmp_eq (off := 9) (by decide) (by decide) (by decide +kernel))))
theorem xb0_5 (hC : z_HC l G d z_tb C) : z_SB "QuotaPeers" prog_1_method_1_code 1 false d G l C ((Option.some Jvm.ClassFile.FieldType.boolean)) xp0 30 xB0_5.1 xB0_5.2 := sb_cons (n := 1) hC.1 (tz_ldI _) (so_iload_n 0 (by decide +kernel)) (sb_cons (n := 2) hC.1 (tz_cI _) (so_bipush (45) (45) (by decide +kernel) (by decide +kernel)) (sb_nil (tz_icmp _ _ _ _ _) (st_icmp_ne (off := 7) (by decide) (by decide) (by decide +kernel))))
theorem xb0_6 (hC : z_HC l G d z_tb C) : z_SB "QuotaPeers" prog_1_method_1_code 1 false d G l C ((Option.some Jvm.ClassFile.FieldType.boolean)) xp0 36 xB0_6.1 xB0_6.2 := sb_cons (n := 1) hC.1 (tz_cI _) (so_iconst (1) (1) (by decide +kernel) (by decide +kernel)) (sb_nil (tz_goto _ _) (st_goto (off := 4) (by decide) (by decide +kernel)))
theorem xb0_7 (hC : z_HC l G d z_tb C) : z_SB "QuotaPeers" prog_1_method_1_code 1 false d G l C ((Option.some Jvm.ClassFile.FieldType.boolean)) xp0 40 xB0_7.1 xB0_7.2 := sb_cons (n := 1) hC.1 (tz_cI _) (so_iconst (0) (0) (by decide +kernel) (by decide +kernel)) (sb_nil (tz_goto _ _) (st_fall (by decide)))
theorem xb0_8 (hC : z_HC l G d z_tb C) : z_SB "QuotaPeers" prog_1_method_1_code 1 false d G l C ((Option.some Jvm.ClassFile.FieldType.boolean)) xp0 41 xB0_8.1 xB0_8.2 := sb_nil (tz_zret) (st_zret rfl (by decide +kernel))
theorem xm0 (hC : z_HC l G d z_tb C) : z_SM "QuotaPeers" prog_1_method_1_code 1 false d G l C ((Option.some Jvm.ClassFile.FieldType.boolean)) xp0 xP0 := by
  intro b
  match b with
  | 0 => exact xb0_0 hC
  | 1 => exact xb0_1 hC
  | 2 => exact xb0_2 hC
  | 3 => exact xb0_3 hC
  | 4 => exact xb0_4 hC
  | 5 => exact xb0_5 hC
  | 6 => exact xb0_6 hC
  | 7 => exact xb0_7 hC
  | 8 => exact xb0_8 hC
  | _ + 9 => exact sb_dead
end
/-! QuotaPeers.<init>()V -/
def xB1_0 : List z_Op × z_Tm := ([zo_ldA 0, zo_obj, zo_ldA 0, zo_new 1, zo_dupR, zo_cvV 238 0 1, zo_pR 0 0, zo_ldA 0, zo_new 1, zo_dupR, zo_cvV 238 0 1, zo_pR 0 1, zo_ldA 0, zo_new 1, zo_dupR, zo_cvV 238 0 1, zo_pR 0 2, zo_ldA 0, zo_new 1, zo_dupR, zo_cvV 238 0 1, zo_pR 0 3, zo_ldA 0, zo_new 2, zo_dupR, zo_cvV 216 0 2, zo_pR 0 4, zo_ldA 0, zo_new 3, zo_dupR, zo_cvV 196 0 3, zo_pR 0 5, zo_ldA 0, zo_cI (8), zo_newA 1048852 8, zo_pR 0 6, zo_ldA 0, zo_cI (4), zo_newA 2097301 4, zo_pR 0 7, zo_ldA 0, zo_cI (16), zo_newA 3146262 16, zo_pR 0 9, zo_ldA 0, zo_cI (16), zo_newA 4194839 16, zo_pR 0 11, zo_ldA 0, zo_cI (64), zo_newA 5244952 64, zo_pR 0 13, zo_ldA 0, zo_cI (32), zo_newA 6292505 32, zo_pR 0 15, zo_ldA 0, zo_gR 0 1, zo_cI (109), zo_cI (46), zo_cI (104), zo_cI (111), zo_cI (109), zo_cI (101), zo_cvV 246 6 1, zo_ldA 0, zo_gR 0 2, zo_cI (104), zo_cI (111), zo_cI (109), zo_cI (101), zo_cI (0), zo_cI (0), zo_cvV 246 6 1, zo_ldA 0, zo_gR 0 3, zo_cI (112), zo_cI (101), zo_cI (101), zo_cI (114), zo_cI (0), zo_cI (0), zo_cvV 246 6 1, zo_cI (0), zo_stI 1], zt_goto 1 [true, true])
def xB1_1 : List z_Op × z_Tm := ([zo_ldI 1, zo_cI (8)], zt_icmp (fun x y => y ≤ x) 3 [true, false] 2 [true, true])
def xB1_2 : List z_Op × z_Tm := ([zo_ldA 0, zo_gR 0 6, zo_ldI 1, zo_new 4, zo_dupR, zo_ldI 1, zo_cI (1), zo_ii ((· + ·)), zo_cvV 190 1 4, zo_astR, zo_inc 1 (1)], zt_goto 1 [true, true])
def xB1_3 : List z_Op × z_Tm := ([zo_cI (0), zo_stI 1], zt_goto 4 [true, true])
def xB1_4 : List z_Op × z_Tm := ([zo_ldI 1, zo_cI (16)], zt_icmp (fun x y => y ≤ x) 6 [true, false] 5 [true, true])
def xB1_5 : List z_Op × z_Tm := ([zo_ldA 0, zo_gR 0 11, zo_ldI 1, zo_new 5, zo_dupR, zo_cvV 235 0 5, zo_astR, zo_inc 1 (1)], zt_goto 4 [true, true])
def xB1_6 : List z_Op × z_Tm := ([zo_cI (0), zo_stI 1], zt_goto 7 [true, true])
def xB1_7 : List z_Op × z_Tm := ([zo_ldI 1, zo_cI (64)], zt_icmp (fun x y => y ≤ x) 9 [true, false] 8 [true, true])
def xB1_8 : List z_Op × z_Tm := ([zo_ldA 0, zo_gR 0 13, zo_ldI 1, zo_new 6, zo_dupR, zo_cvV 234 0 6, zo_astR, zo_inc 1 (1)], zt_goto 7 [true, true])
def xB1_9 : List z_Op × z_Tm := ([zo_cI (0), zo_stI 1], zt_goto 10 [true, true])
def xB1_10 : List z_Op × z_Tm := ([zo_ldI 1, zo_cI (32)], zt_icmp (fun x y => y ≤ x) 12 [false, false] 11 [true, true])
def xB1_11 : List z_Op × z_Tm := ([zo_ldA 0, zo_gR 0 15, zo_ldI 1, zo_new 7, zo_dupR, zo_cvV 189 0 7, zo_astR, zo_inc 1 (1)], zt_goto 10 [true, true])
def xB1_12 : List z_Op × z_Tm := ([], zt_vret)
def xp1 : Nat → Nat := fun b => ([0, 178, 184, 206, 208, 214, 233, 235, 241, 260, 262, 268, 287] : List Nat).getD b 0
def xP1 : z_M := fun b => ([xB1_0, xB1_1, xB1_2, xB1_3, xB1_4, xB1_5, xB1_6, xB1_7, xB1_8, xB1_9, xB1_10, xB1_11, xB1_12] : List (List z_Op × z_Tm)).getD b z_dead
section
variable {d : Nat} {G : z_G} {l : Launch} {C : z_O}
theorem xb1_0 (hC : z_HC l G d z_tb C) : z_SB "QuotaPeers" prog_1_method_2_code 2 true d G l C ((Option.none : Option Jvm.ClassFile.FieldType)) xp1 0 xB1_0.1 xB1_0.2 := sb_cons (n := 1) hC.1 (tz_ldA _) (so_aload_n 0 (by decide +kernel)) (sb_cons (n := 3) hC.1 (tz_obj) (so_obj w154 xo_1 xo_2 (by decide +kernel)) (sb_cons (n := 1) hC.1 (tz_ldA _) (so_aload_n 0 (by decide +kernel)) (sb_cons (n := 3) hC.1 (tz_new _) (xn_1 w157 (by decide +kernel)) (sb_cons (n := 1) hC.1 (tz_dupR) (so_dupR (by decide +kernel)) (sb_cons (n := 3) hC.1 (tz_cvV _ _ _) (xcN_238 hC w159 (by decide +kernel)) (sb_cons (n := 3) hC.1 (tz_pR _ _) (xpF_0_0 rfl rfl w429 (by decide +kernel)) (sb_cons (n := 1) hC.1 (tz_ldA _) (so_aload_n 0 (by decide +kernel)) (sb_cons (n := 3) hC.1 (tz_new _) (xn_1 w157 (by decide +kernel)) (sb_cons (n := 1) hC.1 (tz_dupR) (so_dupR (by decide +kernel)) (sb_cons (n := 3) hC.1 (tz_cvV _ _ _) (xcN_238 hC w159 (by decide +kernel)) (sb_cons (n := 3) hC.1 (tz_pR _ _) (xpF_0_1 rfl rfl w430 (by decide +kernel)) (sb_cons (n := 1) hC.1 (tz_ldA _) (so_aload_n 0 (by decide +kernel)) (sb_cons (n := 3) hC.1 (tz_new _) (xn_1 w157 (by decide +kernel)) (sb_cons (n := 1) hC.1 (tz_dupR) (so_dupR (by decide +kernel)) (sb_cons (n := 3) hC.1 (tz_cvV _ _ _) (xcN_238 hC w159 (by decide +kernel)) (sb_cons (n := 3) hC.1 (tz_pR _ _) (xpF_0_2 rfl rfl w431 (by decide +kernel)) (sb_cons (n := 1) hC.1 (tz_ldA _) (so_aload_n 0 (by decide +kernel)) (sb_cons (n := 3) hC.1 (tz_new _) (xn_1 w157 (by decide +kernel)) (sb_cons (n := 1) hC.1 (tz_dupR) (so_dupR (by decide +kernel)) (sb_cons (n := 3) hC.1 (tz_cvV _ _ _) (xcN_238 hC w159 (by decide +kernel)) (sb_cons (n := 3) hC.1 (tz_pR _ _) (xpF_0_3 rfl rfl w432 (by decide +kernel)) (sb_cons (n := 1) hC.1 (tz_ldA _) (so_aload_n 0 (by decide +kernel)) (sb_cons (n := 3) hC.1 (tz_new _) (xn_2 w174 (by decide +kernel)) (sb_cons (n := 1) hC.1 (tz_dupR) (so_dupR (by decide +kernel)) (sb_cons (n := 3) hC.1 (tz_cvV _ _ _) (xcN_216 hC w176 (by decide +kernel)) (sb_cons (n := 3) hC.1 (tz_pR _ _) (xpF_0_4 rfl rfl w433 (by decide +kernel)) (sb_cons (n := 1) hC.1 (tz_ldA _) (so_aload_n 0 (by decide +kernel)) (sb_cons (n := 3) hC.1 (tz_new _) (xn_3 w189 (by decide +kernel)) (sb_cons (n := 1) hC.1 (tz_dupR) (so_dupR (by decide +kernel)) (sb_cons (n := 3) hC.1 (tz_cvV _ _ _) (xcN_196 hC w191 (by decide +kernel)) (sb_cons (n := 3) hC.1 (tz_pR _ _) (xpF_0_5 rfl rfl w434 (by decide +kernel)) (sb_cons (n := 1) hC.1 (tz_ldA _) (so_aload_n 0 (by decide +kernel)) (sb_cons (n := 2) hC.1 (tz_cI _) (so_bipush (8) (8) (by decide +kernel) (by decide +kernel)) (sb_cons (n := 3) hC.1 (tz_newA _ _) (so_newQ 1048852 8 (by decide) (fun _ => rfl) w268 w269 (by decide +kernel) (by decide +kernel) (by decide +kernel) (by decide +kernel)) (sb_cons (n := 3) hC.1 (tz_pR _ _) (xpF_0_6 rfl rfl w435 (by decide +kernel)) (sb_cons (n := 1) hC.1 (tz_ldA _) (so_aload_n 0 (by decide +kernel)) (sb_cons (n := 1) hC.1 (tz_cI _) (so_iconst (4) (4) (by decide +kernel) (by decide +kernel)) (sb_cons (n := 3) hC.1 (tz_newA _ _) (so_newQ 2097301 4 (by decide) (fun _ => rfl) w270 w271 (by decide +kernel) (by decide +kernel) (by decide +kernel) (by decide +kernel)) (sb_cons (n := 3) hC.1 (tz_pR _ _) (xpF_0_7 rfl rfl w436 (by decide +kernel)) (sb_cons (n := 1) hC.1 (tz_ldA _) (so_aload_n 0 (by decide +kernel)) (sb_cons (n := 2) hC.1 (tz_cI _) (so_bipush (16) (16) (by decide +kernel) (by decide +kernel)) (sb_cons (n := 3) hC.1 (tz_newA _ _) (so_newQ 3146262 16 (by decide) (fun _ => rfl) w272 w273 (by decide +kernel) (by decide +kernel) (by decide +kernel) (by decide +kernel)) (sb_cons (n := 3) hC.1 (tz_pR _ _) (xpF_0_9 rfl rfl w438 (by decide +kernel)) (sb_cons (n := 1) hC.1 (tz_ldA _) (so_aload_n 0 (by decide +kernel)) (sb_cons (n := 2) hC.1 (tz_cI _) (so_bipush (16) (16) (by decide +kernel) (by decide +kernel)) (sb_cons (n := 3) hC.1 (tz_newA _ _) (so_newQ 4194839 16 (by decide) (fun _ => rfl) w274 w275 (by decide +kernel) (by decide +kernel) (by decide +kernel) (by decide +kernel)) (sb_cons (n := 3) hC.1 (tz_pR _ _) (xpF_0_11 rfl rfl w440 (by decide +kernel)) (sb_cons (n := 1) hC.1 (tz_ldA _) (so_aload_n 0 (by decide +kernel)) (sb_cons (n := 2) hC.1 (tz_cI _) (so_bipush (64) (64) (by decide +kernel) (by decide +kernel)) (sb_cons (n := 3) hC.1 (tz_newA _ _) (so_newQ 5244952 64 (by decide) (fun _ => rfl) w276 w277 (by decide +kernel) (by decide +kernel) (by decide +kernel) (by decide +kernel)) (sb_cons (n := 3) hC.1 (tz_pR _ _) (xpF_0_13 rfl rfl w442 (by decide +kernel)) (sb_cons (n := 1) hC.1 (tz_ldA _) (so_aload_n 0 (by decide +kernel)) (sb_cons (n := 2) hC.1 (tz_cI _) (so_bipush (32) (32) (by decide +kernel) (by decide +kernel)) (sb_cons (n := 3) hC.1 (tz_newA _ _) (so_newQ 6292505 32 (by decide) (fun _ => rfl) w278 w279 (by decide +kernel) (by decide +kernel) (by decide +kernel) (by decide +kernel)) (sb_cons (n := 3) hC.1 (tz_pR _ _) (xpF_0_15 rfl rfl w444 (by decide +kernel)) (sb_cons (n := 1) hC.1 (tz_ldA _) (so_aload_n 0 (by decide +kernel)) (sb_cons (n := 3) hC.1 (tz_gR _ _) (xg_0_1 w430 (by decide +kernel)) (sb_cons (n := 2) hC.1 (tz_cI _) (so_bipush (109) (109) (by decide +kernel) (by decide +kernel)) (sb_cons (n := 2) hC.1 (tz_cI _) (so_bipush (46) (46) (by decide +kernel) (by decide +kernel)) (sb_cons (n := 2) hC.1 (tz_cI _) (so_bipush (104) (104) (by decide +kernel) (by decide +kernel)) (sb_cons (n := 2) hC.1 (tz_cI _) (so_bipush (111) (111) (by decide +kernel) (by decide +kernel)) (sb_cons (n := 2) hC.1 (tz_cI _) (so_bipush (109) (109) (by decide +kernel) (by decide +kernel)) (sb_cons (n := 2) hC.1 (tz_cI _) (so_bipush (101) (101) (by decide +kernel) (by decide +kernel)) (sb_cons (n := 3) hC.1 (tz_cvV _ _ _) (xc_246 hC w280 (by decide +kernel)) (sb_cons (n := 1) hC.1 (tz_ldA _) (so_aload_n 0 (by decide +kernel)) (sb_cons (n := 3) hC.1 (tz_gR _ _) (xg_0_2 w431 (by decide +kernel)) (sb_cons (n := 2) hC.1 (tz_cI _) (so_bipush (104) (104) (by decide +kernel) (by decide +kernel)) (sb_cons (n := 2) hC.1 (tz_cI _) (so_bipush (111) (111) (by decide +kernel) (by decide +kernel)) (sb_cons (n := 2) hC.1 (tz_cI _) (so_bipush (109) (109) (by decide +kernel) (by decide +kernel)) (sb_cons (n := 2) hC.1 (tz_cI _) (so_bipush (101) (101) (by decide +kernel) (by decide +kernel)) (sb_cons (n := 1) hC.1 (tz_cI _) (so_iconst (0) (0) (by decide +kernel) (by decide +kernel)) (sb_cons (n := 1) hC.1 (tz_cI _) (so_iconst (0) (0) (by decide +kernel) (by decide +kernel)) (sb_cons (n := 3) hC.1 (tz_cvV _ _ _) (xc_246 hC w280 (by decide +kernel)) (sb_cons (n := 1) hC.1 (tz_ldA _) (so_aload_n 0 (by decide +kernel)) (sb_cons (n := 3) hC.1 (tz_gR _ _) (xg_0_3 w432 (by decide +kernel)) (sb_cons (n := 2) hC.1 (tz_cI _) (so_bipush (112) (112) (by decide +kernel) (by decide +kernel)) (sb_cons (n := 2) hC.1 (tz_cI _) (so_bipush (101) (101) (by decide +kernel) (by decide +kernel)) (sb_cons (n := 2) hC.1 (tz_cI _) (so_bipush (101) (101) (by decide +kernel) (by decide +kernel)) (sb_cons (n := 2) hC.1 (tz_cI _) (so_bipush (114) (114) (by decide +kernel) (by decide +kernel)) (sb_cons (n := 1) hC.1 (tz_cI _) (so_iconst (0) (0) (by decide +kernel) (by decide +kernel)) (sb_cons (n := 1) hC.1 (tz_cI _) (so_iconst (0) (0) (by decide +kernel) (by decide +kernel)) (sb_cons (n := 3) hC.1 (tz_cvV _ _ _) (xc_246 hC w280 (by decide +kernel)) (sb_cons (n := 1) hC.1 (tz_cI _) (so_iconst (0) (0) (by decide +kernel) (by decide +kernel)) (sb_cons (n := 1) hC.1 (tz_stI _) (so_istore_n 1 (by decide) (by decide +kernel)) (sb_nil (tz_goto _ _) (st_fall (by decide)))))))))))))))))))))))))))))))))))))))))))))))))))))))))))))))))))))))))))))))))))))))
theorem xb1_1 (hC : z_HC l G d z_tb C) : z_SB "QuotaPeers" prog_1_method_2_code 2 true d G l C ((Option.none : Option Jvm.ClassFile.FieldType)) xp1 178 xB1_1.1 xB1_1.2 := sb_cons (n := 1) hC.1 (tz_ldI _) (so_iload_n 1 (by decide +kernel)) (sb_cons (n := 2) hC.1 (tz_cI _) (so_bipush (8) (8) (by decide +kernel) (by decide +kernel)) (sb_nil (tz_icmp _ _ _ _ _) (st_icmp_ge (off := 25) (by decide) (by decide) (by decide +kernel))))
theorem xb1_2 (hC : z_HC l G d z_tb C) : z_SB "QuotaPeers" prog_1_method_2_code 2 true d G l C ((Option.none : Option Jvm.ClassFile.FieldType)) xp1 184 xB1_2.1 xB1_2.2 := sb_cons (n := 1) hC.1 (tz_ldA _) (so_aload_n 0 (by decide +kernel)) (sb_cons (n := 3) hC.1 (tz_gR _ _) (xg_0_6 w435 (by decide +kernel)) (sb_cons (n := 1) hC.1 (tz_ldI _) (so_iload_n 1 (by decide +kernel)) (sb_cons (n := 3) hC.1 (tz_new _) (xn_4 w268 (by decide +kernel)) (sb_cons (n := 1) hC.1 (tz_dupR) (so_dupR (by decide +kernel)) (sb_cons (n := 1) hC.1 (tz_ldI _) (so_iload_n 1 (by decide +kernel)) (sb_cons (n := 1) hC.1 (tz_cI _) (so_iconst (1) (1) (by decide +kernel) (by decide +kernel)) (sb_cons (n := 1) hC.1 (tz_ii _) (so_iadd (by decide +kernel)) (sb_cons (n := 3) hC.1 (tz_cvV _ _ _) (xc_190 hC w293 (by decide +kernel)) (sb_cons (n := 1) hC.1 (tz_astR) (so_aastore (by decide +kernel)) (sb_cons (n := 3) hC.1 (tz_inc _ _) (so_iinc 1 (1) (1) (by decide +kernel) (by decide) (by decide +kernel)) (sb_nil (tz_goto _ _) (st_goto (off := -25) (by decide) (by decide +kernel)))))))))))))
theorem xb1_3 (hC : z_HC l G d z_tb C) : z_SB "QuotaPeers" prog_1_method_2_code 2 true d G l C ((Option.none : Option Jvm.ClassFile.FieldType)) xp1 206 xB1_3.1 xB1_3.2 := sb_cons (n := 1) hC.1 (tz_cI _) (so_iconst (0) (0) (by decide +kernel) (by decide +kernel)) (sb_cons (n := 1) hC.1 (tz_stI _) (so_istore_n 1 (by decide) (by decide +kernel)) (sb_nil (tz_goto _ _) (st_fall (by decide))))
theorem xb1_4 (hC : z_HC l G d z_tb C) : z_SB "QuotaPeers" prog_1_method_2_code 2 true d G l C ((Option.none : Option Jvm.ClassFile.FieldType)) xp1 208 xB1_4.1 xB1_4.2 := sb_cons (n := 1) hC.1 (tz_ldI _) (so_iload_n 1 (by decide +kernel)) (sb_cons (n := 2) hC.1 (tz_cI _) (so_bipush (16) (16) (by decide +kernel) (by decide +kernel)) (sb_nil (tz_icmp _ _ _ _ _) (st_icmp_ge (off := 22) (by decide) (by decide) (by decide +kernel))))
theorem xb1_5 (hC : z_HC l G d z_tb C) : z_SB "QuotaPeers" prog_1_method_2_code 2 true d G l C ((Option.none : Option Jvm.ClassFile.FieldType)) xp1 214 xB1_5.1 xB1_5.2 := sb_cons (n := 1) hC.1 (tz_ldA _) (so_aload_n 0 (by decide +kernel)) (sb_cons (n := 3) hC.1 (tz_gR _ _) (xg_0_11 w440 (by decide +kernel)) (sb_cons (n := 1) hC.1 (tz_ldI _) (so_iload_n 1 (by decide +kernel)) (sb_cons (n := 3) hC.1 (tz_new _) (xn_5 w274 (by decide +kernel)) (sb_cons (n := 1) hC.1 (tz_dupR) (so_dupR (by decide +kernel)) (sb_cons (n := 3) hC.1 (tz_cvV _ _ _) (xcN_235 hC w333 (by decide +kernel)) (sb_cons (n := 1) hC.1 (tz_astR) (so_aastore (by decide +kernel)) (sb_cons (n := 3) hC.1 (tz_inc _ _) (so_iinc 1 (1) (1) (by decide +kernel) (by decide) (by decide +kernel)) (sb_nil (tz_goto _ _) (st_goto (off := -22) (by decide) (by decide +kernel))))))))))
theorem xb1_6 (hC : z_HC l G d z_tb C) : z_SB "QuotaPeers" prog_1_method_2_code 2 true d G l C ((Option.none : Option Jvm.ClassFile.FieldType)) xp1 233 xB1_6.1 xB1_6.2 := sb_cons (n := 1) hC.1 (tz_cI _) (so_iconst (0) (0) (by decide +kernel) (by decide +kernel)) (sb_cons (n := 1) hC.1 (tz_stI _) (so_istore_n 1 (by decide) (by decide +kernel)) (sb_nil (tz_goto _ _) (st_fall (by decide))))
theorem xb1_7 (hC : z_HC l G d z_tb C) : z_SB "QuotaPeers" prog_1_method_2_code 2 true d G l C ((Option.none : Option Jvm.ClassFile.FieldType)) xp1 235 xB1_7.1 xB1_7.2 := sb_cons (n := 1) hC.1 (tz_ldI _) (so_iload_n 1 (by decide +kernel)) (sb_cons (n := 2) hC.1 (tz_cI _) (so_bipush (64) (64) (by decide +kernel) (by decide +kernel)) (sb_nil (tz_icmp _ _ _ _ _) (st_icmp_ge (off := 22) (by decide) (by decide) (by decide +kernel))))
theorem xb1_8 (hC : z_HC l G d z_tb C) : z_SB "QuotaPeers" prog_1_method_2_code 2 true d G l C ((Option.none : Option Jvm.ClassFile.FieldType)) xp1 241 xB1_8.1 xB1_8.2 := sb_cons (n := 1) hC.1 (tz_ldA _) (so_aload_n 0 (by decide +kernel)) (sb_cons (n := 3) hC.1 (tz_gR _ _) (xg_0_13 w442 (by decide +kernel)) (sb_cons (n := 1) hC.1 (tz_ldI _) (so_iload_n 1 (by decide +kernel)) (sb_cons (n := 3) hC.1 (tz_new _) (xn_6 w276 (by decide +kernel)) (sb_cons (n := 1) hC.1 (tz_dupR) (so_dupR (by decide +kernel)) (sb_cons (n := 3) hC.1 (tz_cvV _ _ _) (xcN_234 hC w370 (by decide +kernel)) (sb_cons (n := 1) hC.1 (tz_astR) (so_aastore (by decide +kernel)) (sb_cons (n := 3) hC.1 (tz_inc _ _) (so_iinc 1 (1) (1) (by decide +kernel) (by decide) (by decide +kernel)) (sb_nil (tz_goto _ _) (st_goto (off := -22) (by decide) (by decide +kernel))))))))))
theorem xb1_9 (hC : z_HC l G d z_tb C) : z_SB "QuotaPeers" prog_1_method_2_code 2 true d G l C ((Option.none : Option Jvm.ClassFile.FieldType)) xp1 260 xB1_9.1 xB1_9.2 := sb_cons (n := 1) hC.1 (tz_cI _) (so_iconst (0) (0) (by decide +kernel) (by decide +kernel)) (sb_cons (n := 1) hC.1 (tz_stI _) (so_istore_n 1 (by decide) (by decide +kernel)) (sb_nil (tz_goto _ _) (st_fall (by decide))))
theorem xb1_10 (hC : z_HC l G d z_tb C) : z_SB "QuotaPeers" prog_1_method_2_code 2 true d G l C ((Option.none : Option Jvm.ClassFile.FieldType)) xp1 262 xB1_10.1 xB1_10.2 := sb_cons (n := 1) hC.1 (tz_ldI _) (so_iload_n 1 (by decide +kernel)) (sb_cons (n := 2) hC.1 (tz_cI _) (so_bipush (32) (32) (by decide +kernel) (by decide +kernel)) (sb_nil (tz_icmp _ _ _ _ _) (st_icmp_ge (off := 22) (by decide) (by decide) (by decide +kernel))))
theorem xb1_11 (hC : z_HC l G d z_tb C) : z_SB "QuotaPeers" prog_1_method_2_code 2 true d G l C ((Option.none : Option Jvm.ClassFile.FieldType)) xp1 268 xB1_11.1 xB1_11.2 := sb_cons (n := 1) hC.1 (tz_ldA _) (so_aload_n 0 (by decide +kernel)) (sb_cons (n := 3) hC.1 (tz_gR _ _) (xg_0_15 w444 (by decide +kernel)) (sb_cons (n := 1) hC.1 (tz_ldI _) (so_iload_n 1 (by decide +kernel)) (sb_cons (n := 3) hC.1 (tz_new _) (xn_7 w278 (by decide +kernel)) (sb_cons (n := 1) hC.1 (tz_dupR) (so_dupR (by decide +kernel)) (sb_cons (n := 3) hC.1 (tz_cvV _ _ _) (xcN_189 hC w405 (by decide +kernel)) (sb_cons (n := 1) hC.1 (tz_astR) (so_aastore (by decide +kernel)) (sb_cons (n := 3) hC.1 (tz_inc _ _) (so_iinc 1 (1) (1) (by decide +kernel) (by decide) (by decide +kernel)) (sb_nil (tz_goto _ _) (st_goto (off := -22) (by decide) (by decide +kernel))))))))))
theorem xb1_12 (hC : z_HC l G d z_tb C) : z_SB "QuotaPeers" prog_1_method_2_code 2 true d G l C ((Option.none : Option Jvm.ClassFile.FieldType)) xp1 287 xB1_12.1 xB1_12.2 := sb_nil (tz_vret) (st_vret rfl (by decide +kernel))
theorem xm1 (hC : z_HC l G d z_tb C) : z_SM "QuotaPeers" prog_1_method_2_code 2 true d G l C ((Option.none : Option Jvm.ClassFile.FieldType)) xp1 xP1 := by
  intro b
  match b with
  | 0 => exact xb1_0 hC
  | 1 => exact xb1_1 hC
  | 2 => exact xb1_2 hC
  | 3 => exact xb1_3 hC
  | 4 => exact xb1_4 hC
  | 5 => exact xb1_5 hC
  | 6 => exact xb1_6 hC
  | 7 => exact xb1_7 hC
  | 8 => exact xb1_8 hC
  | 9 => exact xb1_9 hC
  | 10 => exact xb1_10 hC
  | 11 => exact xb1_11 hC
  | 12 => exact xb1_12 hC
  | _ + 13 => exact sb_dead
end
/-! QuotaPeers.isIn(JJJ)Z -/
def xB2_0 : List z_Op × z_Tm := ([zo_ldJ 0, zo_ldJ 2, zo_lcmp], zt_if (fun x => x < 0) 3 [false, false, false, false, false, false] 1 [true, false, false, false, true, false])
def xB2_1 : List z_Op × z_Tm := ([zo_ldJ 0, zo_ldJ 4, zo_lcmp], zt_if (fun x => 0 < x) 3 [false, false, false, false, false, false] 2 [false, false, false, false, false, false])
def xB2_2 : List z_Op × z_Tm := ([zo_cI (1)], zt_goto 4 [false, false, false, false, false, false])
def xB2_3 : List z_Op × z_Tm := ([zo_cI (0)], zt_goto 4 [false, false, false, false, false, false])
def xB2_4 : List z_Op × z_Tm := ([], zt_zret)
def xp2 : Nat → Nat := fun b => ([0, 6, 13, 17, 18] : List Nat).getD b 0
def xP2 : z_M := fun b => ([xB2_0, xB2_1, xB2_2, xB2_3, xB2_4] : List (List z_Op × z_Tm)).getD b z_dead
section
variable {d : Nat} {G : z_G} {l : Launch} {C : z_O}
theorem xb2_0 (hC : z_HC l G d z_tb C) : z_SB "QuotaPeers" prog_1_method_3_code 6 false d G l C ((Option.some Jvm.ClassFile.FieldType.boolean)) xp2 0 xB2_0.1 xB2_0.2 := sb_cons (n := 1) hC.1 (tz_ldJ _) (so_lload_n 0 (by decide +kernel)) (sb_cons (n := 1) hC.1 (tz_ldJ _) (so_lload_n 2 (by decide +kernel)) (sb_cons (n := 1) hC.1 (tz_lcmp) (so_lcmp (by decide +kernel)) (sb_nil (tz_if _ _ _ _ _) (st_if_lt (off := 14) (by decide) (by decide) (by decide +kernel)))))
theorem xb2_1 (hC : z_HC l G d z_tb C) : z_SB "QuotaPeers" prog_1_method_3_code 6 false d G l C ((Option.some Jvm.ClassFile.FieldType.boolean)) xp2 6 xB2_1.1 xB2_1.2 := sb_cons (n := 1) hC.1 (tz_ldJ _) (so_lload_n 0 (by decide +kernel)) (sb_cons (n := 2) hC.1 (tz_ldJ _) (so_lload 4 (by decide +kernel)) (sb_cons (n := 1) hC.1 (tz_lcmp) (so_lcmp (by decide +kernel)) (sb_nil (tz_if _ _ _ _ _) (st_if_gt (off := 7) (by decide) (by decide) (by decide +kernel)))))
theorem xb2_2 (hC : z_HC l G d z_tb C) : z_SB "QuotaPeers" prog_1_method_3_code 6 false d G l C ((Option.some Jvm.ClassFile.FieldType.boolean)) xp2 13 xB2_2.1 xB2_2.2 := sb_cons (n := 1) hC.1 (tz_cI _) (so_iconst (1) (1) (by decide +kernel) (by decide +kernel)) (sb_nil (tz_goto _ _) (st_goto (off := 4) (by decide) (by decide +kernel)))
theorem xb2_3 (hC : z_HC l G d z_tb C) : z_SB "QuotaPeers" prog_1_method_3_code 6 false d G l C ((Option.some Jvm.ClassFile.FieldType.boolean)) xp2 17 xB2_3.1 xB2_3.2 := sb_cons (n := 1) hC.1 (tz_cI _) (so_iconst (0) (0) (by decide +kernel) (by decide +kernel)) (sb_nil (tz_goto _ _) (st_fall (by decide)))
theorem xb2_4 (hC : z_HC l G d z_tb C) : z_SB "QuotaPeers" prog_1_method_3_code 6 false d G l C ((Option.some Jvm.ClassFile.FieldType.boolean)) xp2 18 xB2_4.1 xB2_4.2 := sb_nil (tz_zret) (st_zret rfl (by decide +kernel))
theorem xm2 (hC : z_HC l G d z_tb C) : z_SM "QuotaPeers" prog_1_method_3_code 6 false d G l C ((Option.some Jvm.ClassFile.FieldType.boolean)) xp2 xP2 := by
  intro b
  match b with
  | 0 => exact xb2_0 hC
  | 1 => exact xb2_1 hC
  | 2 => exact xb2_2 hC
  | 3 => exact xb2_3 hC
  | 4 => exact xb2_4 hC
  | _ + 5 => exact sb_dead
end
/-! QuotaPeers.sign(I)I -/
def xB3_0 : List z_Op × z_Tm := ([zo_ldI 1, zo_cI (-1)], zt_icmp (fun x y => x = y) 1 [true, false, false, false, false] 2 [true, true, false, false, false])
def xB3_1 : List z_Op × z_Tm := ([zo_ldA 0, zo_gR 0 0, zo_cvV 239 0 1, zo_cI (0)], zt_iret)
def xB3_2 : List z_Op × z_Tm := ([zo_cI (0), zo_stI 2, zo_cI (24), zo_stI 3], zt_goto 3 [true, true, true, true, false])
def xB3_3 : List z_Op × z_Tm := ([zo_ldI 3], zt_if (fun x => x < 0) 11 [true, true, true, false, false] 4 [true, true, true, true, false])
def xB3_4 : List z_Op × z_Tm := ([zo_ldI 1, zo_ldI 3, zo_ii (fun x y => x >>> (y &&& 31)), zo_cI (255), zo_ii ((· &&& ·)), zo_stI 4, zo_ldI 4], zt_if (fun x => x = 0) 7 [true, true, true, true, true] 5 [true, true, true, true, true])
def xB3_5 : List z_Op × z_Tm := ([zo_ldI 4, zo_crS 0 1], zt_if (fun x => x = 0) 6 [false, false, false, false, false] 7 [true, true, true, true, true])
def xB3_6 : List z_Op × z_Tm := ([zo_cI (-2)], zt_iret)
def xB3_7 : List z_Op × z_Tm := ([zo_ldI 2, zo_ldI 4], zt_if (fun x => x = 0) 9 [true, true, false, true, false] 8 [true, true, false, true, false])
def xB3_8 : List z_Op × z_Tm := ([zo_cI (1)], zt_goto 10 [true, true, false, true, false])
def xB3_9 : List z_Op × z_Tm := ([zo_cI (0)], zt_goto 10 [true, true, false, true, false])
def xB3_10 : List z_Op × z_Tm := ([zo_ii ((· + ·)), zo_stI 2, zo_inc 3 (-8)], zt_goto 3 [true, true, true, true, false])
def xB3_11 : List z_Op × z_Tm := ([zo_ldA 0, zo_gR 0 0, zo_gI 1 1, zo_ldI 2, zo_ii ((· + ·)), zo_cI (40)], zt_icmp (fun x y => x ≤ y) 13 [true, true, false, false, false] 12 [false, false, false, false, false])
def xB3_12 : List z_Op × z_Tm := ([zo_cI (-4)], zt_iret)
def xB3_13 : List z_Op × z_Tm := ([zo_cI (24), zo_stI 3], zt_goto 14 [true, true, false, true, false])
def xB3_14 : List z_Op × z_Tm := ([zo_ldI 3], zt_if (fun x => x < 0) 18 [true, false, false, false, false] 15 [true, true, false, true, false])
def xB3_15 : List z_Op × z_Tm := ([zo_ldI 1, zo_ldI 3, zo_ii (fun x y => x >>> (y &&& 31)), zo_cI (255), zo_ii ((· &&& ·))], zt_if (fun x => x = 0) 17 [true, true, false, true, false] 16 [true, true, false, true, false])
def xB3_16 : List z_Op × z_Tm := ([zo_ldA 0, zo_gR 0 0, zo_ldI 1, zo_ldI 3, zo_ii (fun x y => x >>> (y &&& 31)), zo_cI (255), zo_ii ((· &&& ·)), zo_cvV 240 1 1], zt_goto 17 [true, true, false, true, false])
def xB3_17 : List z_Op × z_Tm := ([zo_inc 3 (-8)], zt_goto 14 [true, true, false, true, false])
def xB3_18 : List z_Op × z_Tm := ([zo_ldA 0, zo_gR 0 0, zo_gI 1 1], zt_iret)
def xp3 : Nat → Nat := fun b => ([0, 5, 14, 19, 23, 37, 45, 48, 54, 58, 59, 67, 81, 84, 87, 91, 101, 115, 121] : List Nat).getD b 0
def xP3 : z_M := fun b => ([xB3_0, xB3_1, xB3_2, xB3_3, xB3_4, xB3_5, xB3_6, xB3_7, xB3_8, xB3_9, xB3_10, xB3_11, xB3_12, xB3_13, xB3_14, xB3_15, xB3_16, xB3_17, xB3_18] : List (List z_Op × z_Tm)).getD b z_dead
section
variable {d : Nat} {G : z_G} {l : Launch} {C : z_O}
theorem xb3_0 (hC : z_HC l G d z_tb C) : z_SB "QuotaPeers" prog_1_method_4_code 5 false d G l C ((Option.some Jvm.ClassFile.FieldType.int)) xp3 0 xB3_0.1 xB3_0.2 := sb_cons (n := 1) hC.1 (tz_ldI _) (so_iload_n 1 (by decide +kernel)) (sb_cons (n := 1) hC.1 (tz_cI _) (so_iconst (-1) (-1) (by decide +kernel) (by decide +kernel)) (sb_nil (tz_icmp _ _ _ _ _) (st_icmp_ne (off := 12) (by decide) (by decide) (by decide +kernel))))
theorem xb3_1 (hC : z_HC l G d z_tb C) : z_SB "QuotaPeers" prog_1_method_4_code 5 false d G l C ((Option.some Jvm.ClassFile.FieldType.int)) xp3 5 xB3_1.1 xB3_1.2 := sb_cons (n := 1) hC.1 (tz_ldA _) (so_aload_n 0 (by decide +kernel)) (sb_cons (n := 3) hC.1 (tz_gR _ _) (xg_0_0 w429 (by decide +kernel)) (sb_cons (n := 3) hC.1 (tz_cvV _ _ _) (xc_239 hC w500 (by decide +kernel)) (sb_cons (n := 1) hC.1 (tz_cI _) (so_iconst (0) (0) (by decide +kernel) (by decide +kernel)) (sb_nil (tz_iret) (st_iret rfl (by decide +kernel))))))
theorem xb3_2 (hC : z_HC l G d z_tb C) : z_SB "QuotaPeers" prog_1_method_4_code 5 false d G l C ((Option.some Jvm.ClassFile.FieldType.int)) xp3 14 xB3_2.1 xB3_2.2 := sb_cons (n := 1) hC.1 (tz_cI _) (so_iconst (0) (0) (by decide +kernel) (by decide +kernel)) (sb_cons (n := 1) hC.1 (tz_stI _) (so_istore_n 2 (by decide) (by decide +kernel)) (sb_cons (n := 2) hC.1 (tz_cI _) (so_bipush (24) (24) (by decide +kernel) (by decide +kernel)) (sb_cons (n := 1) hC.1 (tz_stI _) (so_istore_n 3 (by decide) (by decide +kernel)) (sb_nil (tz_goto _ _) (st_fall (by decide))))))
theorem xb3_3 (hC : z_HC l G d z_tb C) : z_SB "QuotaPeers" prog_1_method_4_code 5 false d G l C ((Option.some Jvm.ClassFile.FieldType.int)) xp3 19 xB3_3.1 xB3_3.2 := sb_cons (n := 1) hC.1 (tz_ldI _) (so_iload_n 3 (by decide +kernel)) (sb_nil (tz_if _ _ _ _ _) (st_if_lt (off := 47) (by decide) (by decide) (by decide +kernel)))
theorem xb3_4 (hC : z_HC l G d z_tb C) : z_SB "QuotaPeers" prog_1_method_4_code 5 false d G l C ((Option.some Jvm.ClassFile.FieldType.int)) xp3 23 xB3_4.1 xB3_4.2 := sb_cons (n := 1) hC.1 (tz_ldI _) (so_iload_n 1 (by decide +kernel)) (sb_cons (n := 1) hC.1 (tz_ldI _) (so_iload_n 3 (by decide +kernel)) (sb_cons (n := 1) hC.1 (tz_ii _) (so_ishr (by decide +kernel)) (sb_cons (n := 3) hC.1 (tz_cI _) (so_sipush (255) (255) (by decide +kernel) (by decide +kernel)) (sb_cons (n := 1) hC.1 (tz_ii _) (so_iand (by decide +kernel)) (sb_cons (n := 2) hC.1 (tz_stI _) (so_istore 4 (by decide) (by decide +kernel)) (sb_cons (n := 2) hC.1 (tz_ldI _) (so_iload 4 (by decide +kernel)) (sb_nil (tz_if _ _ _ _ _) (st_if_eq (off := 14) (by decide) (by decide) (by decide +kernel)))))))))
theorem xb3_5 (hC : z_HC l G d z_tb C) : z_SB "QuotaPeers" prog_1_method_4_code 5 false d G l C ((Option.some Jvm.ClassFile.FieldType.int)) xp3 37 xB3_5.1 xB3_5.2 := sb_cons (n := 2) hC.1 (tz_ldI _) (so_iload 4 (by decide +kernel)) (sb_cons (n := 3) hC.1 (tz_crS _ _) (xc_0 hC w501 (by decide +kernel)) (sb_nil (tz_if _ _ _ _ _) (st_if_ne (off := 6) (by decide) (by decide) (by decide +kernel))))
theorem xb3_6 (hC : z_HC l G d z_tb C) : z_SB "QuotaPeers" prog_1_method_4_code 5 false d G l C ((Option.some Jvm.ClassFile.FieldType.int)) xp3 45 xB3_6.1 xB3_6.2 := sb_cons (n := 2) hC.1 (tz_cI _) (so_bipush (-2) (-2) (by decide +kernel) (by decide +kernel)) (sb_nil (tz_iret) (st_iret rfl (by decide +kernel)))
theorem xb3_7 (hC : z_HC l G d z_tb C) : z_SB "QuotaPeers" prog_1_method_4_code 5 false d G l C ((Option.some Jvm.ClassFile.FieldType.int)) xp3 48 xB3_7.1 xB3_7.2 := sb_cons (n := 1) hC.1 (tz_ldI _) (so_iload_n 2 (by decide +kernel)) (sb_cons (n := 2) hC.1 (tz_ldI _) (so_iload 4 (by decide +kernel)) (sb_nil (tz_if _ _ _ _ _) (st_if_eq (off := 7) (by decide) (by decide) (by decide +kernel))))
theorem xb3_8 (hC : z_HC l G d z_tb C) : z_SB "QuotaPeers" prog_1_method_4_code 5 false d G l C ((Option.some Jvm.ClassFile.FieldType.int)) xp3 54 xB3_8.1 xB3_8.2 := sb_cons (n := 1) hC.1 (tz_cI _) (so_iconst (1) (1) (by decide +kernel) (by decide +kernel)) (sb_nil (tz_goto _ _) (st_goto (off := 4) (by decide) (by decide +kernel)))
theorem xb3_9 (hC : z_HC l G d z_tb C) : z_SB "QuotaPeers" prog_1_method_4_code 5 false d G l C ((Option.some Jvm.ClassFile.FieldType.int)) xp3 58 xB3_9.1 xB3_9.2 := sb_cons (n := 1) hC.1 (tz_cI _) (so_iconst (0) (0) (by decide +kernel) (by decide +kernel)) (sb_nil (tz_goto _ _) (st_fall (by decide)))
theorem xb3_10 (hC : z_HC l G d z_tb C) : z_SB "QuotaPeers" prog_1_method_4_code 5 false d G l C ((Option.some Jvm.ClassFile.FieldType.int)) xp3 59 xB3_10.1 xB3_10.2 := sb_cons (n := 1) hC.1 (tz_ii _) (so_iadd (by decide +kernel)) (sb_cons (n := 1) hC.1 (tz_stI _) (so_istore_n 2 (by decide) (by decide +kernel)) (sb_cons (n := 3) hC.1 (tz_inc _ _) (so_iinc 3 (-8) (-8) (by decide +kernel) (by decide) (by decide +kernel)) (sb_nil (tz_goto _ _) (st_goto (off := -45) (by decide) (by decide +kernel)))))
theorem xb3_11 (hC : z_HC l G d z_tb C) : z_SB "QuotaPeers" prog_1_method_4_code 5 false d G l C ((Option.some Jvm.ClassFile.FieldType.int)) xp3 67 xB3_11.1 xB3_11.2 := sb_cons (n := 1) hC.1 (tz_ldA _) (so_aload_n 0 (by decide +kernel)) (sb_cons (n := 3) hC.1 (tz_gR _ _) (xg_0_0 w429 (by decide +kernel)) (sb_cons (n := 3) hC.1 (tz_gI _ _) (xgN_1_1 w166 (by decide +kernel)) (sb_cons (n := 1) hC.1 (tz_ldI _) (so_iload_n 2 (by decide +kernel)) (sb_cons (n := 1) hC.1 (tz_ii _) (so_iadd (by decide +kernel)) (sb_cons (n := 2) hC.1 (tz_cI _) (so_bipush (40) (40) (by decide +kernel) (by decide +kernel)) (sb_nil (tz_icmp _ _ _ _ _) (st_icmp_le (off := 6) (by decide) (by decide) (by decide +kernel))))))))
theorem xb3_12 (hC : z_HC l G d z_tb C) : z_SB "QuotaPeers" prog_1_method_4_code 5 false d G l C ((Option.some Jvm.ClassFile.FieldType.int)) xp3 81 xB3_12.1 xB3_12.2 := sb_cons (n := 2) hC.1 (tz_cI _) (so_bipush (-4) (-4) (by decide +kernel) (by decide +kernel)) (sb_nil (tz_iret) (st_iret rfl (by decide +kernel)))
theorem xb3_13 (hC : z_HC l G d z_tb C) : z_SB "QuotaPeers" prog_1_method_4_code 5 false d G l C ((Option.some Jvm.ClassFile.FieldType.int)) xp3 84 xB3_13.1 xB3_13.2 := sb_cons (n := 2) hC.1 (tz_cI _) (so_bipush (24) (24) (by decide +kernel) (by decide +kernel)) (sb_cons (n := 1) hC.1 (tz_stI _) (so_istore_n 3 (by decide) (by decide +kernel)) (sb_nil (tz_goto _ _) (st_fall (by decide))))
theorem xb3_14 (hC : z_HC l G d z_tb C) : z_SB "QuotaPeers" prog_1_method_4_code 5 false d G l C ((Option.some Jvm.ClassFile.FieldType.int)) xp3 87 xB3_14.1 xB3_14.2 := sb_cons (n := 1) hC.1 (tz_ldI _) (so_iload_n 3 (by decide +kernel)) (sb_nil (tz_if _ _ _ _ _) (st_if_lt (off := 33) (by decide) (by decide) (by decide +kernel)))
theorem xb3_15 (hC : z_HC l G d z_tb C) : z_SB "QuotaPeers" prog_1_method_4_code 5 false d G l C ((Option.some Jvm.ClassFile.FieldType.int)) xp3 91 xB3_15.1 xB3_15.2 := sb_cons (n := 1) hC.1 (tz_ldI _) (so_iload_n 1 (by decide +kernel)) (sb_cons (n := 1) hC.1 (tz_ldI _) (so_iload_n 3 (by decide +kernel)) (sb_cons (n := 1) hC.1 (tz_ii _) (so_ishr (by decide +kernel)) (sb_cons (n := 3) hC.1 (tz_cI _) (so_sipush (255) (255) (by decide +kernel) (by decide +kernel)) (sb_cons (n := 1) hC.1 (tz_ii _) (so_iand (by decide +kernel)) (sb_nil (tz_if _ _ _ _ _) (st_if_eq (off := 17) (by decide) (by decide) (by decide +kernel)))))))
theorem xb3_16 (hC : z_HC l G d z_tb C) : z_SB "QuotaPeers" prog_1_method_4_code 5 false d G l C ((Option.some Jvm.ClassFile.FieldType.int)) xp3 101 xB3_16.1 xB3_16.2 := sb_cons (n := 1) hC.1 (tz_ldA _) (so_aload_n 0 (by decide +kernel)) (sb_cons (n := 3) hC.1 (tz_gR _ _) (xg_0_0 w429 (by decide +kernel)) (sb_cons (n := 1) hC.1 (tz_ldI _) (so_iload_n 1 (by decide +kernel)) (sb_cons (n := 1) hC.1 (tz_ldI _) (so_iload_n 3 (by decide +kernel)) (sb_cons (n := 1) hC.1 (tz_ii _) (so_ishr (by decide +kernel)) (sb_cons (n := 3) hC.1 (tz_cI _) (so_sipush (255) (255) (by decide +kernel) (by decide +kernel)) (sb_cons (n := 1) hC.1 (tz_ii _) (so_iand (by decide +kernel)) (sb_cons (n := 3) hC.1 (tz_cvV _ _ _) (xc_240 hC w504 (by decide +kernel)) (sb_nil (tz_goto _ _) (st_fall (by decide))))))))))
theorem xb3_17 (hC : z_HC l G d z_tb C) : z_SB "QuotaPeers" prog_1_method_4_code 5 false d G l C ((Option.some Jvm.ClassFile.FieldType.int)) xp3 115 xB3_17.1 xB3_17.2 := sb_cons (n := 3) hC.1 (tz_inc _ _) (so_iinc 3 (-8) (-8) (by decide +kernel) (by decide) (by decide +kernel)) (sb_nil (tz_goto _ _) (st_goto (off := -31) (by decide) (by decide +kernel)))
theorem xb3_18 (hC : z_HC l G d z_tb C) : z_SB "QuotaPeers" prog_1_method_4_code 5 false d G l C ((Option.some Jvm.ClassFile.FieldType.int)) xp3 121 xB3_18.1 xB3_18.2 := sb_cons (n := 1) hC.1 (tz_ldA _) (so_aload_n 0 (by decide +kernel)) (sb_cons (n := 3) hC.1 (tz_gR _ _) (xg_0_0 w429 (by decide +kernel)) (sb_cons (n := 3) hC.1 (tz_gI _ _) (xgN_1_1 w166 (by decide +kernel)) (sb_nil (tz_iret) (st_iret rfl (by decide +kernel)))))
theorem xm3 (hC : z_HC l G d z_tb C) : z_SM "QuotaPeers" prog_1_method_4_code 5 false d G l C ((Option.some Jvm.ClassFile.FieldType.int)) xp3 xP3 := by
  intro b
  match b with
  | 0 => exact xb3_0 hC
  | 1 => exact xb3_1 hC
  | 2 => exact xb3_2 hC
  | 3 => exact xb3_3 hC
  | 4 => exact xb3_4 hC
  | 5 => exact xb3_5 hC
  | 6 => exact xb3_6 hC
  | 7 => exact xb3_7 hC
  | 8 => exact xb3_8 hC
  | 9 => exact xb3_9 hC
  | 10 => exact xb3_10 hC
  | 11 => exact xb3_11 hC
  | 12 => exact xb3_12 hC
  | 13 => exact xb3_13 hC
  | 14 => exact xb3_14 hC
  | 15 => exact xb3_15 hC
  | 16 => exact xb3_16 hC
  | 17 => exact xb3_17 hC
  | 18 => exact xb3_18 hC
  | _ + 19 => exact sb_dead
end
/-! QuotaPeers.own()I -/
def xB4_0 : List z_Op × z_Tm := ([zo_ldA 0, zo_gR 0 0, zo_gI 1 1], zt_if (fun x => x = 0) 1 [false] 2 [true])
def xB4_1 : List z_Op × z_Tm := ([zo_cI (-2)], zt_iret)
def xB4_2 : List z_Op × z_Tm := ([zo_ldA 0, zo_gI 0 8], zt_if (fun x => x ≤ 0) 4 [true] 3 [false])
def xB4_3 : List z_Op × z_Tm := ([zo_cI (-3)], zt_iret)
def xB4_4 : List z_Op × z_Tm := ([zo_ldA 0, zo_gR 0 1, zo_ldA 0, zo_gR 0 0, zo_cvV 241 1 1, zo_ldA 0, zo_gR 0 0, zo_cvV 239 0 1, zo_ldA 0, zo_gR 0 1, zo_gI 1 1], zt_iret)
def xp4 : Nat → Nat := fun b => ([0, 10, 13, 20, 23] : List Nat).getD b 0
def xP4 : z_M := fun b => ([xB4_0, xB4_1, xB4_2, xB4_3, xB4_4] : List (List z_Op × z_Tm)).getD b z_dead
section
variable {d : Nat} {G : z_G} {l : Launch} {C : z_O}
theorem xb4_0 (hC : z_HC l G d z_tb C) : z_SB "QuotaPeers" prog_1_method_5_code 1 false d G l C ((Option.some Jvm.ClassFile.FieldType.int)) xp4 0 xB4_0.1 xB4_0.2 := sb_cons (n := 1) hC.1 (tz_ldA _) (so_aload_n 0 (by decide +kernel)) (sb_cons (n := 3) hC.1 (tz_gR _ _) (xg_0_0 w429 (by decide +kernel)) (sb_cons (n := 3) hC.1 (tz_gI _ _) (xgN_1_1 w166 (by decide +kernel)) (sb_nil (tz_if _ _ _ _ _) (st_if_ne (off := 6) (by decide) (by decide) (by decide +kernel)))))
theorem xb4_1 (hC : z_HC l G d z_tb C) : z_SB "QuotaPeers" prog_1_method_5_code 1 false d G l C ((Option.some Jvm.ClassFile.FieldType.int)) xp4 10 xB4_1.1 xB4_1.2 := sb_cons (n := 2) hC.1 (tz_cI _) (so_bipush (-2) (-2) (by decide +kernel) (by decide +kernel)) (sb_nil (tz_iret) (st_iret rfl (by decide +kernel)))
theorem xb4_2 (hC : z_HC l G d z_tb C) : z_SB "QuotaPeers" prog_1_method_5_code 1 false d G l C ((Option.some Jvm.ClassFile.FieldType.int)) xp4 13 xB4_2.1 xB4_2.2 := sb_cons (n := 1) hC.1 (tz_ldA _) (so_aload_n 0 (by decide +kernel)) (sb_cons (n := 3) hC.1 (tz_gI _ _) (xg_0_8 w437 (by decide +kernel)) (sb_nil (tz_if _ _ _ _ _) (st_if_le (off := 6) (by decide) (by decide) (by decide +kernel))))
theorem xb4_3 (hC : z_HC l G d z_tb C) : z_SB "QuotaPeers" prog_1_method_5_code 1 false d G l C ((Option.some Jvm.ClassFile.FieldType.int)) xp4 20 xB4_3.1 xB4_3.2 := sb_cons (n := 2) hC.1 (tz_cI _) (so_bipush (-3) (-3) (by decide +kernel) (by decide +kernel)) (sb_nil (tz_iret) (st_iret rfl (by decide +kernel)))
theorem xb4_4 (hC : z_HC l G d z_tb C) : z_SB "QuotaPeers" prog_1_method_5_code 1 false d G l C ((Option.some Jvm.ClassFile.FieldType.int)) xp4 23 xB4_4.1 xB4_4.2 := sb_cons (n := 1) hC.1 (tz_ldA _) (so_aload_n 0 (by decide +kernel)) (sb_cons (n := 3) hC.1 (tz_gR _ _) (xg_0_1 w430 (by decide +kernel)) (sb_cons (n := 1) hC.1 (tz_ldA _) (so_aload_n 0 (by decide +kernel)) (sb_cons (n := 3) hC.1 (tz_gR _ _) (xg_0_0 w429 (by decide +kernel)) (sb_cons (n := 3) hC.1 (tz_cvV _ _ _) (xc_241 hC w509 (by decide +kernel)) (sb_cons (n := 1) hC.1 (tz_ldA _) (so_aload_n 0 (by decide +kernel)) (sb_cons (n := 3) hC.1 (tz_gR _ _) (xg_0_0 w429 (by decide +kernel)) (sb_cons (n := 3) hC.1 (tz_cvV _ _ _) (xc_239 hC w500 (by decide +kernel)) (sb_cons (n := 1) hC.1 (tz_ldA _) (so_aload_n 0 (by decide +kernel)) (sb_cons (n := 3) hC.1 (tz_gR _ _) (xg_0_1 w430 (by decide +kernel)) (sb_cons (n := 3) hC.1 (tz_gI _ _) (xgN_1_1 w166 (by decide +kernel)) (sb_nil (tz_iret) (st_iret rfl (by decide +kernel)))))))))))))
theorem xm4 (hC : z_HC l G d z_tb C) : z_SM "QuotaPeers" prog_1_method_5_code 1 false d G l C ((Option.some Jvm.ClassFile.FieldType.int)) xp4 xP4 := by
  intro b
  match b with
  | 0 => exact xb4_0 hC
  | 1 => exact xb4_1 hC
  | 2 => exact xb4_2 hC
  | 3 => exact xb4_3 hC
  | 4 => exact xb4_4 hC
  | _ + 5 => exact sb_dead
end
/-! QuotaPeers.peer(Z)I -/
def xB5_0 : List z_Op × z_Tm := ([zo_ldA 0, zo_gR 0 0, zo_gI 1 1], zt_if (fun x => x = 0) 1 [false, false, false, false] 2 [true, true, false, false])
def xB5_1 : List z_Op × z_Tm := ([zo_cI (-2)], zt_iret)
def xB5_2 : List z_Op × z_Tm := ([zo_ldA 0, zo_gR 0 0, zo_ldA 0, zo_gR 0 1, zo_crV 243 1 1, zo_stI 2, zo_cI (0), zo_stI 3], zt_goto 3 [true, true, true, true])
def xB5_3 : List z_Op × z_Tm := ([zo_ldI 3, zo_ldA 0, zo_gI 0 8], zt_icmp (fun x y => y ≤ x) 5 [true, true, true, false] 4 [true, true, true, true])
def xB5_4 : List z_Op × z_Tm := ([zo_ldI 2, zo_ldA 0, zo_gR 0 0, zo_ldA 0, zo_gR 0 7, zo_ldI 3, zo_aldR, zo_gR 9 1, zo_crV 243 1 1, zo_ii ((· ||| ·)), zo_stI 2, zo_inc 3 (1)], zt_goto 3 [true, true, true, true])
def xB5_5 : List z_Op × z_Tm := ([zo_ldI 2], zt_if (fun x => x = 0) 7 [true, true, false, false] 6 [false, false, false, false])
def xB5_6 : List z_Op × z_Tm := ([zo_cI (-3)], zt_iret)
def xB5_7 : List z_Op × z_Tm := ([zo_ldA 0, zo_gI 0 8, zo_cI (4)], zt_icmp (fun x y => x = y) 8 [false, false, false, false] 9 [true, true, false, false])
def xB5_8 : List z_Op × z_Tm := ([zo_cI (-4)], zt_iret)
def xB5_9 : List z_Op × z_Tm := ([zo_new 9, zo_dupR, zo_ldA 0, zo_gI 0 8, zo_cI (1), zo_ii ((· + ·)), zo_ldI 1, zo_ldA 0, zo_gI 0 17, zo_cvV 229 3 9, zo_stA 3, zo_ldA 3, zo_gR 9 1, zo_ldA 0, zo_gR 0 0, zo_cvV 241 1 1, zo_ldA 0, zo_gR 0 0, zo_cvV 239 0 1, zo_ldA 0, zo_gR 0 7, zo_ldA 0, zo_dupR, zo_gI 0 8, zo_dupx1, zo_cI (1), zo_ii ((· + ·)), zo_pI 0 8, zo_ldA 3, zo_astR, zo_ldA 0, zo_gI 0 8], zt_iret)
def xp5 : Nat → Nat := fun b => ([0, 10, 13, 27, 35, 60, 64, 67, 75, 78] : List Nat).getD b 0
def xP5 : z_M := fun b => ([xB5_0, xB5_1, xB5_2, xB5_3, xB5_4, xB5_5, xB5_6, xB5_7, xB5_8, xB5_9] : List (List z_Op × z_Tm)).getD b z_dead
section
variable {d : Nat} {G : z_G} {l : Launch} {C : z_O}
theorem xb5_0 (hC : z_HC l G d z_tb C) : z_SB "QuotaPeers" prog_1_method_6_code 4 false d G l C ((Option.some Jvm.ClassFile.FieldType.int)) xp5 0 xB5_0.1 xB5_0.2 := sb_cons (n := 1) hC.1 (tz_ldA _) (so_aload_n 0 (by decide +kernel)) (sb_cons (n := 3) hC.1 (tz_gR _ _) (xg_0_0 w429 (by decide +kernel)) (sb_cons (n := 3) hC.1 (tz_gI _ _) (xgN_1_1 w166 (by decide +kernel)) (sb_nil (tz_if _ _ _ _ _) (st_if_ne (off := 6) (by decide) (by decide) (by decide +kernel)))))
theorem xb5_1 (hC : z_HC l G d z_tb C) : z_SB "QuotaPeers" prog_1_method_6_code 4 false d G l C ((Option.some Jvm.ClassFile.FieldType.int)) xp5 10 xB5_1.1 xB5_1.2 := sb_cons (n := 2) hC.1 (tz_cI _) (so_bipush (-2) (-2) (by decide +kernel) (by decide +kernel)) (sb_nil (tz_iret) (st_iret rfl (by decide +kernel)))
theorem xb5_2 (hC : z_HC l G d z_tb C) : z_SB "QuotaPeers" prog_1_method_6_code 4 false d G l C ((Option.some Jvm.ClassFile.FieldType.int)) xp5 13 xB5_2.1 xB5_2.2 := sb_cons (n := 1) hC.1 (tz_ldA _) (so_aload_n 0 (by decide +kernel)) (sb_cons (n := 3) hC.1 (tz_gR _ _) (xg_0_0 w429 (by decide +kernel)) (sb_cons (n := 1) hC.1 (tz_ldA _) (so_aload_n 0 (by decide +kernel)) (sb_cons (n := 3) hC.1 (tz_gR _ _) (xg_0_1 w430 (by decide +kernel)) (sb_cons (n := 3) hC.1 (tz_crV _ _ _) (xc_243 hC w520 (by decide +kernel)) (sb_cons (n := 1) hC.1 (tz_stI _) (so_istore_n 2 (by decide) (by decide +kernel)) (sb_cons (n := 1) hC.1 (tz_cI _) (so_iconst (0) (0) (by decide +kernel) (by decide +kernel)) (sb_cons (n := 1) hC.1 (tz_stI _) (so_istore_n 3 (by decide) (by decide +kernel)) (sb_nil (tz_goto _ _) (st_fall (by decide))))))))))
theorem xb5_3 (hC : z_HC l G d z_tb C) : z_SB "QuotaPeers" prog_1_method_6_code 4 false d G l C ((Option.some Jvm.ClassFile.FieldType.int)) xp5 27 xB5_3.1 xB5_3.2 := sb_cons (n := 1) hC.1 (tz_ldI _) (so_iload_n 3 (by decide +kernel)) (sb_cons (n := 1) hC.1 (tz_ldA _) (so_aload_n 0 (by decide +kernel)) (sb_cons (n := 3) hC.1 (tz_gI _ _) (xg_0_8 w437 (by decide +kernel)) (sb_nil (tz_icmp _ _ _ _ _) (st_icmp_ge (off := 28) (by decide) (by decide) (by decide +kernel)))))
theorem xb5_4 (hC : z_HC l G d z_tb C) : z_SB "QuotaPeers" prog_1_method_6_code 4 false d G l C ((Option.some Jvm.ClassFile.FieldType.int)) xp5 35 xB5_4.1 xB5_4.2 := sb_cons (n := 1) hC.1 (tz_ldI _) (so_iload_n 2 (by decide +kernel)) (sb_cons (n := 1) hC.1 (tz_ldA _) (so_aload_n 0 (by decide +kernel)) (sb_cons (n := 3) hC.1 (tz_gR _ _) (xg_0_0 w429 (by decide +kernel)) (sb_cons (n := 1) hC.1 (tz_ldA _) (so_aload_n 0 (by decide +kernel)) (sb_cons (n := 3) hC.1 (tz_gR _ _) (xg_0_7 w436 (by decide +kernel)) (sb_cons (n := 1) hC.1 (tz_ldI _) (so_iload_n 3 (by decide +kernel)) (sb_cons (n := 1) hC.1 (tz_aldR) (so_aaload (by decide +kernel)) (sb_cons (n := 3) hC.1 (tz_gR _ _) (xgN_9_1 w534 (by decide +kernel)) (sb_cons (n := 3) hC.1 (tz_crV _ _ _) (xc_243 hC w520 (by decide +kernel)) (sb_cons (n := 1) hC.1 (tz_ii _) (so_ior (by decide +kernel)) (sb_cons (n := 1) hC.1 (tz_stI _) (so_istore_n 2 (by decide) (by decide +kernel)) (sb_cons (n := 3) hC.1 (tz_inc _ _) (so_iinc 3 (1) (1) (by decide +kernel) (by decide) (by decide +kernel)) (sb_nil (tz_goto _ _) (st_goto (off := -30) (by decide) (by decide +kernel))))))))))))))
theorem xb5_5 (hC : z_HC l G d z_tb C) : z_SB "QuotaPeers" prog_1_method_6_code 4 false d G l C ((Option.some Jvm.ClassFile.FieldType.int)) xp5 60 xB5_5.1 xB5_5.2 := sb_cons (n := 1) hC.1 (tz_ldI _) (so_iload_n 2 (by decide +kernel)) (sb_nil (tz_if _ _ _ _ _) (st_if_eq (off := 6) (by decide) (by decide) (by decide +kernel)))
theorem xb5_6 (hC : z_HC l G d z_tb C) : z_SB "QuotaPeers" prog_1_method_6_code 4 false d G l C ((Option.some Jvm.ClassFile.FieldType.int)) xp5 64 xB5_6.1 xB5_6.2 := sb_cons (n := 2) hC.1 (tz_cI _) (so_bipush (-3) (-3) (by decide +kernel) (by decide +kernel)) (sb_nil (tz_iret) (st_iret rfl (by decide +kernel)))
theorem xb5_7 (hC : z_HC l G d z_tb C) : z_SB "QuotaPeers" prog_1_method_6_code 4 false d G l C ((Option.some Jvm.ClassFile.FieldType.int)) xp5 67 xB5_7.1 xB5_7.2 := sb_cons (n := 1) hC.1 (tz_ldA _) (so_aload_n 0 (by decide +kernel)) (sb_cons (n := 3) hC.1 (tz_gI _ _) (xg_0_8 w437 (by decide +kernel)) (sb_cons (n := 1) hC.1 (tz_cI _) (so_iconst (4) (4) (by decide +kernel) (by decide +kernel)) (sb_nil (tz_icmp _ _ _ _ _) (st_icmp_ne (off := 6) (by decide) (by decide) (by decide +kernel)))))
theorem xb5_8 (hC : z_HC l G d z_tb C) : z_SB "QuotaPeers" prog_1_method_6_code 4 false d G l C ((Option.some Jvm.ClassFile.FieldType.int)) xp5 75 xB5_8.1 xB5_8.2 := sb_cons (n := 2) hC.1 (tz_cI _) (so_bipush (-4) (-4) (by decide +kernel) (by decide +kernel)) (sb_nil (tz_iret) (st_iret rfl (by decide +kernel)))
theorem xb5_9 (hC : z_HC l G d z_tb C) : z_SB "QuotaPeers" prog_1_method_6_code 4 false d G l C ((Option.some Jvm.ClassFile.FieldType.int)) xp5 78 xB5_9.1 xB5_9.2 := sb_cons (n := 3) hC.1 (tz_new _) (xn_9 w270 (by decide +kernel)) (sb_cons (n := 1) hC.1 (tz_dupR) (so_dupR (by decide +kernel)) (sb_cons (n := 1) hC.1 (tz_ldA _) (so_aload_n 0 (by decide +kernel)) (sb_cons (n := 3) hC.1 (tz_gI _ _) (xg_0_8 w437 (by decide +kernel)) (sb_cons (n := 1) hC.1 (tz_cI _) (so_iconst (1) (1) (by decide +kernel) (by decide +kernel)) (sb_cons (n := 1) hC.1 (tz_ii _) (so_iadd (by decide +kernel)) (sb_cons (n := 1) hC.1 (tz_ldI _) (so_iload_n 1 (by decide +kernel)) (sb_cons (n := 1) hC.1 (tz_ldA _) (so_aload_n 0 (by decide +kernel)) (sb_cons (n := 3) hC.1 (tz_gI _ _) (xg_0_17 w446 (by decide +kernel)) (sb_cons (n := 3) hC.1 (tz_cvV _ _ _) (xc_229 hC w525 (by decide +kernel)) (sb_cons (n := 1) hC.1 (tz_stA _) (so_astore_n 3 (by decide) (by decide +kernel)) (sb_cons (n := 1) hC.1 (tz_ldA _) (so_aload_n 3 (by decide +kernel)) (sb_cons (n := 3) hC.1 (tz_gR _ _) (xgN_9_1 w534 (by decide +kernel)) (sb_cons (n := 1) hC.1 (tz_ldA _) (so_aload_n 0 (by decide +kernel)) (sb_cons (n := 3) hC.1 (tz_gR _ _) (xg_0_0 w429 (by decide +kernel)) (sb_cons (n := 3) hC.1 (tz_cvV _ _ _) (xc_241 hC w509 (by decide +kernel)) (sb_cons (n := 1) hC.1 (tz_ldA _) (so_aload_n 0 (by decide +kernel)) (sb_cons (n := 3) hC.1 (tz_gR _ _) (xg_0_0 w429 (by decide +kernel)) (sb_cons (n := 3) hC.1 (tz_cvV _ _ _) (xc_239 hC w500 (by decide +kernel)) (sb_cons (n := 1) hC.1 (tz_ldA _) (so_aload_n 0 (by decide +kernel)) (sb_cons (n := 3) hC.1 (tz_gR _ _) (xg_0_7 w436 (by decide +kernel)) (sb_cons (n := 1) hC.1 (tz_ldA _) (so_aload_n 0 (by decide +kernel)) (sb_cons (n := 1) hC.1 (tz_dupR) (so_dupR (by decide +kernel)) (sb_cons (n := 3) hC.1 (tz_gI _ _) (xg_0_8 w437 (by decide +kernel)) (sb_cons (n := 1) hC.1 (tz_dupx1) (so_dupx1 (by decide +kernel)) (sb_cons (n := 1) hC.1 (tz_cI _) (so_iconst (1) (1) (by decide +kernel) (by decide +kernel)) (sb_cons (n := 1) hC.1 (tz_ii _) (so_iadd (by decide +kernel)) (sb_cons (n := 3) hC.1 (tz_pI _ _) (xp_0_8 w437 (by decide +kernel)) (sb_cons (n := 1) hC.1 (tz_ldA _) (so_aload_n 3 (by decide +kernel)) (sb_cons (n := 1) hC.1 (tz_astR) (so_aastore (by decide +kernel)) (sb_cons (n := 1) hC.1 (tz_ldA _) (so_aload_n 0 (by decide +kernel)) (sb_cons (n := 3) hC.1 (tz_gI _ _) (xg_0_8 w437 (by decide +kernel)) (sb_nil (tz_iret) (st_iret rfl (by decide +kernel))))))))))))))))))))))))))))))))))
theorem xm5 (hC : z_HC l G d z_tb C) : z_SM "QuotaPeers" prog_1_method_6_code 4 false d G l C ((Option.some Jvm.ClassFile.FieldType.int)) xp5 xP5 := by
  intro b
  match b with
  | 0 => exact xb5_0 hC
  | 1 => exact xb5_1 hC
  | 2 => exact xb5_2 hC
  | 3 => exact xb5_3 hC
  | 4 => exact xb5_4 hC
  | 5 => exact xb5_5 hC
  | 6 => exact xb5_6 hC
  | 7 => exact xb5_7 hC
  | 8 => exact xb5_8 hC
  | 9 => exact xb5_9 hC
  | _ + 10 => exact sb_dead
end
/-! QuotaPeers.peerAt(I)LQuotaPeers$Peer; -/
def xB6_0 : List z_Op × z_Tm := ([zo_ldI 1, zo_i2l, zo_cJ (1), zo_ldA 0, zo_gI 0 8, zo_i2l, zo_crS 2 3], zt_if (fun x => x = 0) 2 [false, false] 1 [true, true])
def xB6_1 : List z_Op × z_Tm := ([zo_ldA 0, zo_gR 0 7, zo_ldI 1, zo_cI (1), zo_ii ((· - ·)), zo_aldR], zt_goto 3 [false, false])
def xB6_2 : List z_Op × z_Tm := ([zo_null], zt_goto 3 [false, false])
def xB6_3 : List z_Op × z_Tm := ([], zt_aret)
def xp6 : Nat → Nat := fun b => ([0, 14, 25, 26] : List Nat).getD b 0
def xP6 : z_M := fun b => ([xB6_0, xB6_1, xB6_2, xB6_3] : List (List z_Op × z_Tm)).getD b z_dead
section
variable {d : Nat} {G : z_G} {l : Launch} {C : z_O}
theorem xb6_0 (hC : z_HC l G d z_tb C) : z_SB "QuotaPeers" prog_1_method_7_code 2 false d G l C ((Option.some (Jvm.ClassFile.FieldType.object "QuotaPeers$Peer"))) xp6 0 xB6_0.1 xB6_0.2 := sb_cons (n := 1) hC.1 (tz_ldI _) (so_iload_n 1 (by decide +kernel)) (sb_cons (n := 1) hC.1 (tz_i2l) (so_i2l (by decide +kernel)) (sb_cons (n := 1) hC.1 (tz_cJ _) (so_lconst 1 (1) (by decide +kernel) (by decide +kernel)) (sb_cons (n := 1) hC.1 (tz_ldA _) (so_aload_n 0 (by decide +kernel)) (sb_cons (n := 3) hC.1 (tz_gI _ _) (xg_0_8 w437 (by decide +kernel)) (sb_cons (n := 1) hC.1 (tz_i2l) (so_i2l (by decide +kernel)) (sb_cons (n := 3) hC.1 (tz_crS _ _) (xc_2 hC w602 (by decide +kernel)) (sb_nil (tz_if _ _ _ _ _) (st_if_eq (off := 14) (by decide) (by decide) (by decide +kernel)))))))))
theorem xb6_1 (hC : z_HC l G d z_tb C) : z_SB "QuotaPeers" prog_1_method_7_code 2 false d G l C ((Option.some (Jvm.ClassFile.FieldType.object "QuotaPeers$Peer"))) xp6 14 xB6_1.1 xB6_1.2 := sb_cons (n := 1) hC.1 (tz_ldA _) (so_aload_n 0 (by decide +kernel)) (sb_cons (n := 3) hC.1 (tz_gR _ _) (xg_0_7 w436 (by decide +kernel)) (sb_cons (n := 1) hC.1 (tz_ldI _) (so_iload_n 1 (by decide +kernel)) (sb_cons (n := 1) hC.1 (tz_cI _) (so_iconst (1) (1) (by decide +kernel) (by decide +kernel)) (sb_cons (n := 1) hC.1 (tz_ii _) (so_isub (by decide +kernel)) (sb_cons (n := 1) hC.1 (tz_aldR) (so_aaload (by decide +kernel)) (sb_nil (tz_goto _ _) (st_goto (off := 4) (by decide) (by decide +kernel))))))))
theorem xb6_2 (hC : z_HC l G d z_tb C) : z_SB "QuotaPeers" prog_1_method_7_code 2 false d G l C ((Option.some (Jvm.ClassFile.FieldType.object "QuotaPeers$Peer"))) xp6 25 xB6_2.1 xB6_2.2 := sb_cons (n := 1) hC.1 (tz_null) (so_null (by decide +kernel)) (sb_nil (tz_goto _ _) (st_fall (by decide)))
theorem xb6_3 (hC : z_HC l G d z_tb C) : z_SB "QuotaPeers" prog_1_method_7_code 2 false d G l C ((Option.some (Jvm.ClassFile.FieldType.object "QuotaPeers$Peer"))) xp6 26 xB6_3.1 xB6_3.2 := sb_nil (tz_aret) (st_aret rfl (by decide +kernel))
theorem xm6 (hC : z_HC l G d z_tb C) : z_SM "QuotaPeers" prog_1_method_7_code 2 false d G l C ((Option.some (Jvm.ClassFile.FieldType.object "QuotaPeers$Peer"))) xp6 xP6 := by
  intro b
  match b with
  | 0 => exact xb6_0 hC
  | 1 => exact xb6_1 hC
  | 2 => exact xb6_2 hC
  | 3 => exact xb6_3 hC
  | _ + 4 => exact sb_dead
end
/-! QuotaPeers.linkAt(I)LQuotaPeers$Link; -/
def xB7_0 : List z_Op × z_Tm := ([zo_ldI 1, zo_i2l, zo_cJ (1), zo_cJ (8), zo_crS 2 3], zt_if (fun x => x = 0) 2 [false, false] 1 [true, true])
def xB7_1 : List z_Op × z_Tm := ([zo_ldA 0, zo_gR 0 6, zo_ldI 1, zo_cI (1), zo_ii ((· - ·)), zo_aldR], zt_goto 3 [false, false])
def xB7_2 : List z_Op × z_Tm := ([zo_null], zt_goto 3 [false, false])
def xB7_3 : List z_Op × z_Tm := ([], zt_aret)
def xp7 : Nat → Nat := fun b => ([0, 12, 23, 24] : List Nat).getD b 0
def xP7 : z_M := fun b => ([xB7_0, xB7_1, xB7_2, xB7_3] : List (List z_Op × z_Tm)).getD b z_dead
section
variable {d : Nat} {G : z_G} {l : Launch} {C : z_O}
theorem xb7_0 (hC : z_HC l G d z_tb C) : z_SB "QuotaPeers" prog_1_method_8_code 2 false d G l C ((Option.some (Jvm.ClassFile.FieldType.object "QuotaPeers$Link"))) xp7 0 xB7_0.1 xB7_0.2 := sb_cons (n := 1) hC.1 (tz_ldI _) (so_iload_n 1 (by decide +kernel)) (sb_cons (n := 1) hC.1 (tz_i2l) (so_i2l (by decide +kernel)) (sb_cons (n := 1) hC.1 (tz_cJ _) (so_lconst 1 (1) (by decide +kernel) (by decide +kernel)) (sb_cons (n := 3) hC.1 (tz_cJ _) (so_ldc2 121 (8) w722 (by decide +kernel)) (sb_cons (n := 3) hC.1 (tz_crS _ _) (xc_2 hC w602 (by decide +kernel)) (sb_nil (tz_if _ _ _ _ _) (st_if_eq (off := 14) (by decide) (by decide) (by decide +kernel)))))))
theorem xb7_1 (hC : z_HC l G d z_tb C) : z_SB "QuotaPeers" prog_1_method_8_code 2 false d G l C ((Option.some (Jvm.ClassFile.FieldType.object "QuotaPeers$Link"))) xp7 12 xB7_1.1 xB7_1.2 := sb_cons (n := 1) hC.1 (tz_ldA _) (so_aload_n 0 (by decide +kernel)) (sb_cons (n := 3) hC.1 (tz_gR _ _) (xg_0_6 w435 (by decide +kernel)) (sb_cons (n := 1) hC.1 (tz_ldI _) (so_iload_n 1 (by decide +kernel)) (sb_cons (n := 1) hC.1 (tz_cI _) (so_iconst (1) (1) (by decide +kernel) (by decide +kernel)) (sb_cons (n := 1) hC.1 (tz_ii _) (so_isub (by decide +kernel)) (sb_cons (n := 1) hC.1 (tz_aldR) (so_aaload (by decide +kernel)) (sb_nil (tz_goto _ _) (st_goto (off := 4) (by decide) (by decide +kernel))))))))
theorem xb7_2 (hC : z_HC l G d z_tb C) : z_SB "QuotaPeers" prog_1_method_8_code 2 false d G l C ((Option.some (Jvm.ClassFile.FieldType.object "QuotaPeers$Link"))) xp7 23 xB7_2.1 xB7_2.2 := sb_cons (n := 1) hC.1 (tz_null) (so_null (by decide +kernel)) (sb_nil (tz_goto _ _) (st_fall (by decide)))
theorem xb7_3 (hC : z_HC l G d z_tb C) : z_SB "QuotaPeers" prog_1_method_8_code 2 false d G l C ((Option.some (Jvm.ClassFile.FieldType.object "QuotaPeers$Link"))) xp7 24 xB7_3.1 xB7_3.2 := sb_nil (tz_aret) (st_aret rfl (by decide +kernel))
theorem xm7 (hC : z_HC l G d z_tb C) : z_SM "QuotaPeers" prog_1_method_8_code 2 false d G l C ((Option.some (Jvm.ClassFile.FieldType.object "QuotaPeers$Link"))) xp7 xP7 := by
  intro b
  match b with
  | 0 => exact xb7_0 hC
  | 1 => exact xb7_1 hC
  | 2 => exact xb7_2 hC
  | 3 => exact xb7_3 hC
  | _ + 4 => exact sb_dead
end
/-! QuotaPeers.spare()LQuotaPeers$Link; -/
def xB8_0 : List z_Op × z_Tm := ([zo_ldA 0, zo_gR 0 6, zo_stA 1, zo_ldA 1, zo_len, zo_stI 2, zo_cI (0), zo_stI 3], zt_goto 1 [false, true, true, true, false])
def xB8_1 : List z_Op × z_Tm := ([zo_ldI 3, zo_ldI 2], zt_icmp (fun x y => y ≤ x) 5 [false, false, false, false, false] 2 [false, true, true, true, false])
def xB8_2 : List z_Op × z_Tm := ([zo_ldA 1, zo_ldI 3, zo_aldR, zo_stA 4, zo_ldA 4, zo_gI 4 1], zt_if (fun x => x = 0) 3 [false, false, false, false, true] 4 [false, true, true, true, false])
def xB8_3 : List z_Op × z_Tm := ([zo_ldA 4], zt_aret)
def xB8_4 : List z_Op × z_Tm := ([zo_inc 3 (1)], zt_goto 1 [false, true, true, true, false])
def xB8_5 : List z_Op × z_Tm := ([zo_null], zt_aret)
def xp8 : Nat → Nat := fun b => ([0, 10, 15, 28, 31, 37] : List Nat).getD b 0
def xP8 : z_M := fun b => ([xB8_0, xB8_1, xB8_2, xB8_3, xB8_4, xB8_5] : List (List z_Op × z_Tm)).getD b z_dead
section
variable {d : Nat} {G : z_G} {l : Launch} {C : z_O}
theorem xb8_0 (hC : z_HC l G d z_tb C) : z_SB "QuotaPeers" prog_1_method_9_code 5 false d G l C ((Option.some (Jvm.ClassFile.FieldType.object "QuotaPeers$Link"))) xp8 0 xB8_0.1 xB8_0.2 := sb_cons (n := 1) hC.1 (tz_ldA _) (so_aload_n 0 (by decide +kernel)) (sb_cons (n := 3) hC.1 (tz_gR _ _) (xg_0_6 w435 (by decide +kernel)) (sb_cons (n := 1) hC.1 (tz_stA _) (so_astore_n 1 (by decide) (by decide +kernel)) (sb_cons (n := 1) hC.1 (tz_ldA _) (so_aload_n 1 (by decide +kernel)) (sb_cons (n := 1) hC.1 (tz_len) (so_len (by decide +kernel)) (sb_cons (n := 1) hC.1 (tz_stI _) (so_istore_n 2 (by decide) (by decide +kernel)) (sb_cons (n := 1) hC.1 (tz_cI _) (so_iconst (0) (0) (by decide +kernel) (by decide +kernel)) (sb_cons (n := 1) hC.1 (tz_stI _) (so_istore_n 3 (by decide) (by decide +kernel)) (sb_nil (tz_goto _ _) (st_fall (by decide))))))))))
theorem xb8_1 (hC : z_HC l G d z_tb C) : z_SB "QuotaPeers" prog_1_method_9_code 5 false d G l C ((Option.some (Jvm.ClassFile.FieldType.object "QuotaPeers$Link"))) xp8 10 xB8_1.1 xB8_1.2 := sb_cons (n := 1) hC.1 (tz_ldI _) (so_iload_n 3 (by decide +kernel)) (sb_cons (n := 1) hC.1 (tz_ldI _) (so_iload_n 2 (by decide +kernel)) (sb_nil (tz_icmp _ _ _ _ _) (st_icmp_ge (off := 25) (by decide) (by decide) (by decide +kernel))))
theorem xb8_2 (hC : z_HC l G d z_tb C) : z_SB "QuotaPeers" prog_1_method_9_code 5 false d G l C ((Option.some (Jvm.ClassFile.FieldType.object "QuotaPeers$Link"))) xp8 15 xB8_2.1 xB8_2.2 := sb_cons (n := 1) hC.1 (tz_ldA _) (so_aload_n 1 (by decide +kernel)) (sb_cons (n := 1) hC.1 (tz_ldI _) (so_iload_n 3 (by decide +kernel)) (sb_cons (n := 1) hC.1 (tz_aldR) (so_aaload (by decide +kernel)) (sb_cons (n := 2) hC.1 (tz_stA _) (so_astore 4 (by decide) (by decide +kernel)) (sb_cons (n := 2) hC.1 (tz_ldA _) (so_aload 4 (by decide +kernel)) (sb_cons (n := 3) hC.1 (tz_gI _ _) (xgN_4_1 w300 (by decide +kernel)) (sb_nil (tz_if _ _ _ _ _) (st_if_ne (off := 6) (by decide) (by decide) (by decide +kernel))))))))
theorem xb8_3 (hC : z_HC l G d z_tb C) : z_SB "QuotaPeers" prog_1_method_9_code 5 false d G l C ((Option.some (Jvm.ClassFile.FieldType.object "QuotaPeers$Link"))) xp8 28 xB8_3.1 xB8_3.2 := sb_cons (n := 2) hC.1 (tz_ldA _) (so_aload 4 (by decide +kernel)) (sb_nil (tz_aret) (st_aret rfl (by decide +kernel)))
theorem xb8_4 (hC : z_HC l G d z_tb C) : z_SB "QuotaPeers" prog_1_method_9_code 5 false d G l C ((Option.some (Jvm.ClassFile.FieldType.object "QuotaPeers$Link"))) xp8 31 xB8_4.1 xB8_4.2 := sb_cons (n := 3) hC.1 (tz_inc _ _) (so_iinc 3 (1) (1) (by decide +kernel) (by decide) (by decide +kernel)) (sb_nil (tz_goto _ _) (st_goto (off := -24) (by decide) (by decide +kernel)))
theorem xb8_5 (hC : z_HC l G d z_tb C) : z_SB "QuotaPeers" prog_1_method_9_code 5 false d G l C ((Option.some (Jvm.ClassFile.FieldType.object "QuotaPeers$Link"))) xp8 37 xB8_5.1 xB8_5.2 := sb_cons (n := 1) hC.1 (tz_null) (so_null (by decide +kernel)) (sb_nil (tz_aret) (st_aret rfl (by decide +kernel)))
theorem xm8 (hC : z_HC l G d z_tb C) : z_SM "QuotaPeers" prog_1_method_9_code 5 false d G l C ((Option.some (Jvm.ClassFile.FieldType.object "QuotaPeers$Link"))) xp8 xP8 := by
  intro b
  match b with
  | 0 => exact xb8_0 hC
  | 1 => exact xb8_1 hC
  | 2 => exact xb8_2 hC
  | 3 => exact xb8_3 hC
  | 4 => exact xb8_4 hC
  | 5 => exact xb8_5 hC
  | _ + 6 => exact sb_dead
end
/-! QuotaPeers.send(LQuotaPeers$Link;)V -/
def xB9_0 : List z_Op × z_Tm := ([zo_ldA 0, zo_gR 0 4, zo_cvV 220 0 2, zo_ldA 1, zo_ldA 0, zo_gR 0 4, zo_gR 2 0, zo_ldA 0, zo_gR 0 4, zo_gI 2 1, zo_crV 194 2 4], zt_if (fun x => x = 0) 1 [true, false] 2 [false, false])
def xB9_1 : List z_Op × z_Tm := ([zo_ldA 0, zo_dupR, zo_gI 0 19, zo_cI (1), zo_ii ((· + ·)), zo_pI 0 19], zt_goto 2 [false, false])
def xB9_2 : List z_Op × z_Tm := ([], zt_vret)
def xp9 : Nat → Nat := fun b => ([0, 28, 38] : List Nat).getD b 0
def xP9 : z_M := fun b => ([xB9_0, xB9_1, xB9_2] : List (List z_Op × z_Tm)).getD b z_dead
section
variable {d : Nat} {G : z_G} {l : Launch} {C : z_O}
theorem xb9_0 (hC : z_HC l G d z_tb C) : z_SB "QuotaPeers" prog_1_method_10_code 2 false d G l C ((Option.none : Option Jvm.ClassFile.FieldType)) xp9 0 xB9_0.1 xB9_0.2 := sb_cons (n := 1) hC.1 (tz_ldA _) (so_aload_n 0 (by decide +kernel)) (sb_cons (n := 3) hC.1 (tz_gR _ _) (xg_0_4 w433 (by decide +kernel)) (sb_cons (n := 3) hC.1 (tz_cvV _ _ _) (xc_220 hC w689 (by decide +kernel)) (sb_cons (n := 1) hC.1 (tz_ldA _) (so_aload_n 1 (by decide +kernel)) (sb_cons (n := 1) hC.1 (tz_ldA _) (so_aload_n 0 (by decide +kernel)) (sb_cons (n := 3) hC.1 (tz_gR _ _) (xg_0_4 w433 (by decide +kernel)) (sb_cons (n := 3) hC.1 (tz_gR _ _) (xgN_2_0 w181 (by decide +kernel)) (sb_cons (n := 1) hC.1 (tz_ldA _) (so_aload_n 0 (by decide +kernel)) (sb_cons (n := 3) hC.1 (tz_gR _ _) (xg_0_4 w433 (by decide +kernel)) (sb_cons (n := 3) hC.1 (tz_gI _ _) (xgN_2_1 w183 (by decide +kernel)) (sb_cons (n := 3) hC.1 (tz_crV _ _ _) (xc_194 hC w697 (by decide +kernel)) (sb_nil (tz_if _ _ _ _ _) (st_if_ne (off := 13) (by decide) (by decide) (by decide +kernel)))))))))))))
theorem xb9_1 (hC : z_HC l G d z_tb C) : z_SB "QuotaPeers" prog_1_method_10_code 2 false d G l C ((Option.none : Option Jvm.ClassFile.FieldType)) xp9 28 xB9_1.1 xB9_1.2 := sb_cons (n := 1) hC.1 (tz_ldA _) (so_aload_n 0 (by decide +kernel)) (sb_cons (n := 1) hC.1 (tz_dupR) (so_dupR (by decide +kernel)) (sb_cons (n := 3) hC.1 (tz_gI _ _) (xg_0_19 w448 (by decide +kernel)) (sb_cons (n := 1) hC.1 (tz_cI _) (so_iconst (1) (1) (by decide +kernel) (by decide +kernel)) (sb_cons (n := 1) hC.1 (tz_ii _) (so_iadd (by decide +kernel)) (sb_cons (n := 3) hC.1 (tz_pI _ _) (xp_0_19 w448 (by decide +kernel)) (sb_nil (tz_goto _ _) (st_fall (by decide))))))))
theorem xb9_2 (hC : z_HC l G d z_tb C) : z_SB "QuotaPeers" prog_1_method_10_code 2 false d G l C ((Option.none : Option Jvm.ClassFile.FieldType)) xp9 38 xB9_2.1 xB9_2.2 := sb_nil (tz_vret) (st_vret rfl (by decide +kernel))
theorem xm9 (hC : z_HC l G d z_tb C) : z_SM "QuotaPeers" prog_1_method_10_code 2 false d G l C ((Option.none : Option Jvm.ClassFile.FieldType)) xp9 xP9 := by
  intro b
  match b with
  | 0 => exact xb9_0 hC
  | 1 => exact xb9_1 hC
  | 2 => exact xb9_2 hC
  | _ + 3 => exact sb_dead
end
/-! QuotaPeers.request(IIII)V -/
def xB10_0 : List z_Op × z_Tm := ([zo_ldA 0, zo_dupR, zo_gI 0 18, zo_cI (1), zo_ii ((· + ·)), zo_pI 0 18, zo_ldA 0, zo_gR 0 4, zo_cI (128), zo_ldI 1, zo_ii ((· ||| ·)), zo_ldI 2, zo_ldI 3, zo_ldA 0, zo_gI 0 18, zo_ldI 4], zt_if (fun x => x = 0) 1 [true, false, false, false, false] 2 [false, false, false, false, true])
def xB10_1 : List z_Op × z_Tm := ([zo_ldA 0, zo_gI 0 18], zt_goto 3 [false, false, false, false, false])
def xB10_2 : List z_Op × z_Tm := ([zo_ldI 4], zt_goto 3 [false, false, false, false, false])
def xB10_3 : List z_Op × z_Tm := ([zo_cvV 219 5 2], zt_vret)
def xp10 : Nat → Nat := fun b => ([0, 30, 37, 39] : List Nat).getD b 0
def xP10 : z_M := fun b => ([xB10_0, xB10_1, xB10_2, xB10_3] : List (List z_Op × z_Tm)).getD b z_dead
section
variable {d : Nat} {G : z_G} {l : Launch} {C : z_O}
theorem xb10_0 (hC : z_HC l G d z_tb C) : z_SB "QuotaPeers" prog_1_method_11_code 5 false d G l C ((Option.none : Option Jvm.ClassFile.FieldType)) xp10 0 xB10_0.1 xB10_0.2 := sb_cons (n := 1) hC.1 (tz_ldA _) (so_aload_n 0 (by decide +kernel)) (sb_cons (n := 1) hC.1 (tz_dupR) (so_dupR (by decide +kernel)) (sb_cons (n := 3) hC.1 (tz_gI _ _) (xg_0_18 w447 (by decide +kernel)) (sb_cons (n := 1) hC.1 (tz_cI _) (so_iconst (1) (1) (by decide +kernel) (by decide +kernel)) (sb_cons (n := 1) hC.1 (tz_ii _) (so_iadd (by decide +kernel)) (sb_cons (n := 3) hC.1 (tz_pI _ _) (xp_0_18 w447 (by decide +kernel)) (sb_cons (n := 1) hC.1 (tz_ldA _) (so_aload_n 0 (by decide +kernel)) (sb_cons (n := 3) hC.1 (tz_gR _ _) (xg_0_4 w433 (by decide +kernel)) (sb_cons (n := 3) hC.1 (tz_cI _) (so_sipush (128) (128) (by decide +kernel) (by decide +kernel)) (sb_cons (n := 1) hC.1 (tz_ldI _) (so_iload_n 1 (by decide +kernel)) (sb_cons (n := 1) hC.1 (tz_ii _) (so_ior (by decide +kernel)) (sb_cons (n := 1) hC.1 (tz_ldI _) (so_iload_n 2 (by decide +kernel)) (sb_cons (n := 1) hC.1 (tz_ldI _) (so_iload_n 3 (by decide +kernel)) (sb_cons (n := 1) hC.1 (tz_ldA _) (so_aload_n 0 (by decide +kernel)) (sb_cons (n := 3) hC.1 (tz_gI _ _) (xg_0_18 w447 (by decide +kernel)) (sb_cons (n := 2) hC.1 (tz_ldI _) (so_iload 4 (by decide +kernel)) (sb_nil (tz_if _ _ _ _ _) (st_if_ne (off := 10) (by decide) (by decide) (by decide +kernel))))))))))))))))))
theorem xb10_1 (hC : z_HC l G d z_tb C) : z_SB "QuotaPeers" prog_1_method_11_code 5 false d G l C ((Option.none : Option Jvm.ClassFile.FieldType)) xp10 30 xB10_1.1 xB10_1.2 := sb_cons (n := 1) hC.1 (tz_ldA _) (so_aload_n 0 (by decide +kernel)) (sb_cons (n := 3) hC.1 (tz_gI _ _) (xg_0_18 w447 (by decide +kernel)) (sb_nil (tz_goto _ _) (st_goto (off := 5) (by decide) (by decide +kernel))))
theorem xb10_2 (hC : z_HC l G d z_tb C) : z_SB "QuotaPeers" prog_1_method_11_code 5 false d G l C ((Option.none : Option Jvm.ClassFile.FieldType)) xp10 37 xB10_2.1 xB10_2.2 := sb_cons (n := 2) hC.1 (tz_ldI _) (so_iload 4 (by decide +kernel)) (sb_nil (tz_goto _ _) (st_fall (by decide)))
theorem xb10_3 (hC : z_HC l G d z_tb C) : z_SB "QuotaPeers" prog_1_method_11_code 5 false d G l C ((Option.none : Option Jvm.ClassFile.FieldType)) xp10 39 xB10_3.1 xB10_3.2 := sb_cons (n := 3) hC.1 (tz_cvV _ _ _) (xc_219 hC w650 (by decide +kernel)) (sb_nil (tz_vret) (st_vret rfl (by decide +kernel)))
theorem xm10 (hC : z_HC l G d z_tb C) : z_SM "QuotaPeers" prog_1_method_11_code 5 false d G l C ((Option.none : Option Jvm.ClassFile.FieldType)) xp10 xP10 := by
  intro b
  match b with
  | 0 => exact xb10_0 hC
  | 1 => exact xb10_1 hC
  | 2 => exact xb10_2 hC
  | 3 => exact xb10_3 hC
  | _ + 4 => exact sb_dead
end
/-! QuotaPeers.origin()V -/
def xB11_0 : List z_Op × z_Tm := ([zo_ldA 0, zo_gR 0 4, zo_cI (264), zo_ldA 0, zo_gR 0 1, zo_cvV 224 2 2, zo_ldA 0, zo_gR 0 4, zo_cI (296), zo_ldA 0, zo_gR 0 2, zo_cvV 224 2 2], zt_vret)
def xp11 : Nat → Nat := fun b => ([0] : List Nat).getD b 0
def xP11 : z_M := fun b => ([xB11_0] : List (List z_Op × z_Tm)).getD b z_dead
section
variable {d : Nat} {G : z_G} {l : Launch} {C : z_O}
theorem xb11_0 (hC : z_HC l G d z_tb C) : z_SB "QuotaPeers" prog_1_method_12_code 1 false d G l C ((Option.none : Option Jvm.ClassFile.FieldType)) xp11 0 xB11_0.1 xB11_0.2 := sb_cons (n := 1) hC.1 (tz_ldA _) (so_aload_n 0 (by decide +kernel)) (sb_cons (n := 3) hC.1 (tz_gR _ _) (xg_0_4 w433 (by decide +kernel)) (sb_cons (n := 3) hC.1 (tz_cI _) (so_sipush (264) (264) (by decide +kernel) (by decide +kernel)) (sb_cons (n := 1) hC.1 (tz_ldA _) (so_aload_n 0 (by decide +kernel)) (sb_cons (n := 3) hC.1 (tz_gR _ _) (xg_0_1 w430 (by decide +kernel)) (sb_cons (n := 3) hC.1 (tz_cvV _ _ _) (xc_224 hC w658 (by decide +kernel)) (sb_cons (n := 1) hC.1 (tz_ldA _) (so_aload_n 0 (by decide +kernel)) (sb_cons (n := 3) hC.1 (tz_gR _ _) (xg_0_4 w433 (by decide +kernel)) (sb_cons (n := 3) hC.1 (tz_cI _) (so_sipush (296) (296) (by decide +kernel) (by decide +kernel)) (sb_cons (n := 1) hC.1 (tz_ldA _) (so_aload_n 0 (by decide +kernel)) (sb_cons (n := 3) hC.1 (tz_gR _ _) (xg_0_2 w431 (by decide +kernel)) (sb_cons (n := 3) hC.1 (tz_cvV _ _ _) (xc_224 hC w658 (by decide +kernel)) (sb_nil (tz_vret) (st_vret rfl (by decide +kernel))))))))))))))
theorem xm11 (hC : z_HC l G d z_tb C) : z_SM "QuotaPeers" prog_1_method_12_code 1 false d G l C ((Option.none : Option Jvm.ClassFile.FieldType)) xp11 xP11 := by
  intro b
  match b with
  | 0 => exact xb11_0 hC
  | _ + 1 => exact sb_dead
end
/-! QuotaPeers.capabilities()V -/
def xB12_0 : List z_Op × z_Tm := ([zo_ldA 0, zo_gR 0 4, zo_cvV 226 0 2, zo_ldA 0, zo_gR 0 4, zo_cI (266), zo_cJ (0), zo_cvV 223 2 2, zo_ldA 0, zo_gR 0 4, zo_cI (269), zo_ldA 0, zo_gR 0 3, zo_cvV 224 2 2, zo_ldA 0, zo_gR 0 4, zo_cI (258), zo_cJ (4), zo_cvV 223 2 2], zt_vret)
def xp12 : Nat → Nat := fun b => ([0] : List Nat).getD b 0
def xP12 : z_M := fun b => ([xB12_0] : List (List z_Op × z_Tm)).getD b z_dead
section
variable {d : Nat} {G : z_G} {l : Launch} {C : z_O}
theorem xb12_0 (hC : z_HC l G d z_tb C) : z_SB "QuotaPeers" prog_1_method_13_code 1 false d G l C ((Option.none : Option Jvm.ClassFile.FieldType)) xp12 0 xB12_0.1 xB12_0.2 := sb_cons (n := 1) hC.1 (tz_ldA _) (so_aload_n 0 (by decide +kernel)) (sb_cons (n := 3) hC.1 (tz_gR _ _) (xg_0_4 w433 (by decide +kernel)) (sb_cons (n := 3) hC.1 (tz_cvV _ _ _) (xc_226 hC w758 (by decide +kernel)) (sb_cons (n := 1) hC.1 (tz_ldA _) (so_aload_n 0 (by decide +kernel)) (sb_cons (n := 3) hC.1 (tz_gR _ _) (xg_0_4 w433 (by decide +kernel)) (sb_cons (n := 3) hC.1 (tz_cI _) (so_sipush (266) (266) (by decide +kernel) (by decide +kernel)) (sb_cons (n := 1) hC.1 (tz_cJ _) (so_lconst 0 (0) (by decide +kernel) (by decide +kernel)) (sb_cons (n := 3) hC.1 (tz_cvV _ _ _) (xc_223 hC w677 (by decide +kernel)) (sb_cons (n := 1) hC.1 (tz_ldA _) (so_aload_n 0 (by decide +kernel)) (sb_cons (n := 3) hC.1 (tz_gR _ _) (xg_0_4 w433 (by decide +kernel)) (sb_cons (n := 3) hC.1 (tz_cI _) (so_sipush (269) (269) (by decide +kernel) (by decide +kernel)) (sb_cons (n := 1) hC.1 (tz_ldA _) (so_aload_n 0 (by decide +kernel)) (sb_cons (n := 3) hC.1 (tz_gR _ _) (xg_0_3 w432 (by decide +kernel)) (sb_cons (n := 3) hC.1 (tz_cvV _ _ _) (xc_224 hC w658 (by decide +kernel)) (sb_cons (n := 1) hC.1 (tz_ldA _) (so_aload_n 0 (by decide +kernel)) (sb_cons (n := 3) hC.1 (tz_gR _ _) (xg_0_4 w433 (by decide +kernel)) (sb_cons (n := 3) hC.1 (tz_cI _) (so_sipush (258) (258) (by decide +kernel) (by decide +kernel)) (sb_cons (n := 3) hC.1 (tz_cJ _) (so_ldc2 159 (4) w676 (by decide +kernel)) (sb_cons (n := 3) hC.1 (tz_cvV _ _ _) (xc_223 hC w677 (by decide +kernel)) (sb_nil (tz_vret) (st_vret rfl (by decide +kernel)))))))))))))))))))))
theorem xm12 (hC : z_HC l G d z_tb C) : z_SM "QuotaPeers" prog_1_method_13_code 1 false d G l C ((Option.none : Option Jvm.ClassFile.FieldType)) xp12 xP12 := by
  intro b
  match b with
  | 0 => exact xb12_0 hC
  | _ + 1 => exact sb_dead
end
/-! QuotaPeers.sendOpening(LQuotaPeers$Peer;)V -/
def xB13_0 : List z_Op × z_Tm := ([zo_ldA 0, zo_cI (0), zo_cI (257), zo_cI (0), zo_cI (0), zo_cvV 10 4 0, zo_ldA 1, zo_ldA 0, zo_gI 0 18, zo_pI 9 15, zo_ldA 0, zo_cvV 11 0 0, zo_ldA 0, zo_cvV 12 0 0, zo_ldA 0, zo_ldA 1, zo_gR 9 5, zo_cvV 9 1 0], zt_vret)
def xp13 : Nat → Nat := fun b => ([0] : List Nat).getD b 0
def xP13 : z_M := fun b => ([xB13_0] : List (List z_Op × z_Tm)).getD b z_dead
section
variable {d : Nat} {G : z_G} {l : Launch} {C : z_O}
theorem xb13_0 (hC : z_HC l G d z_tb C) : z_SB "QuotaPeers" prog_1_method_14_code 2 false d G l C ((Option.none : Option Jvm.ClassFile.FieldType)) xp13 0 xB13_0.1 xB13_0.2 := sb_cons (n := 1) hC.1 (tz_ldA _) (so_aload_n 0 (by decide +kernel)) (sb_cons (n := 1) hC.1 (tz_cI _) (so_iconst (0) (0) (by decide +kernel) (by decide +kernel)) (sb_cons (n := 3) hC.1 (tz_cI _) (so_sipush (257) (257) (by decide +kernel) (by decide +kernel)) (sb_cons (n := 1) hC.1 (tz_cI _) (so_iconst (0) (0) (by decide +kernel) (by decide +kernel)) (sb_cons (n := 1) hC.1 (tz_cI _) (so_iconst (0) (0) (by decide +kernel) (by decide +kernel)) (sb_cons (n := 3) hC.1 (tz_cvV _ _ _) (xc_10 hC w646 (by decide +kernel)) (sb_cons (n := 1) hC.1 (tz_ldA _) (so_aload_n 1 (by decide +kernel)) (sb_cons (n := 1) hC.1 (tz_ldA _) (so_aload_n 0 (by decide +kernel)) (sb_cons (n := 3) hC.1 (tz_gI _ _) (xg_0_18 w447 (by decide +kernel)) (sb_cons (n := 3) hC.1 (tz_pI _ _) (xpN_9_15 w554 (by decide +kernel)) (sb_cons (n := 1) hC.1 (tz_ldA _) (so_aload_n 0 (by decide +kernel)) (sb_cons (n := 3) hC.1 (tz_cvV _ _ _) (xc_11 hC w672 (by decide +kernel)) (sb_cons (n := 1) hC.1 (tz_ldA _) (so_aload_n 0 (by decide +kernel)) (sb_cons (n := 3) hC.1 (tz_cvV _ _ _) (xc_12 hC w754 (by decide +kernel)) (sb_cons (n := 1) hC.1 (tz_ldA _) (so_aload_n 0 (by decide +kernel)) (sb_cons (n := 1) hC.1 (tz_ldA _) (so_aload_n 1 (by decide +kernel)) (sb_cons (n := 3) hC.1 (tz_gR _ _) (xgN_9_5 w541 (by decide +kernel)) (sb_cons (n := 3) hC.1 (tz_cvV _ _ _) (xc_9 hC w685 (by decide +kernel)) (sb_nil (tz_vret) (st_vret rfl (by decide +kernel))))))))))))))))))))
theorem xm13 (hC : z_HC l G d z_tb C) : z_SM "QuotaPeers" prog_1_method_14_code 2 false d G l C ((Option.none : Option Jvm.ClassFile.FieldType)) xp13 xP13 := by
  intro b
  match b with
  | 0 => exact xb13_0 hC
  | _ + 1 => exact sb_dead
end
/-! QuotaPeers.sendWatch(LQuotaPeers$Peer;)V -/
def xB14_0 : List z_Op × z_Tm := ([zo_ldA 0, zo_cI (0), zo_cI (280), zo_cI (0), zo_cI (0), zo_cvV 10 4 0, zo_ldA 1, zo_ldA 0, zo_gI 0 18, zo_pI 9 16, zo_ldA 1, zo_cI (1), zo_pZ 9 11, zo_ldA 0, zo_cvV 11 0 0, zo_ldA 0, zo_gR 0 4, zo_cI (278), zo_cJ (1), zo_cvV 223 2 2, zo_ldA 0, zo_ldA 1, zo_crV 232 0 9, zo_cvV 9 1 0], zt_vret)
def xp14 : Nat → Nat := fun b => ([0] : List Nat).getD b 0
def xP14 : z_M := fun b => ([xB14_0] : List (List z_Op × z_Tm)).getD b z_dead
section
variable {d : Nat} {G : z_G} {l : Launch} {C : z_O}
theorem xb14_0 (hC : z_HC l G d z_tb C) : z_SB "QuotaPeers" prog_1_method_15_code 2 false d G l C ((Option.none : Option Jvm.ClassFile.FieldType)) xp14 0 xB14_0.1 xB14_0.2 := sb_cons (n := 1) hC.1 (tz_ldA _) (so_aload_n 0 (by decide +kernel)) (sb_cons (n := 1) hC.1 (tz_cI _) (so_iconst (0) (0) (by decide +kernel) (by decide +kernel)) (sb_cons (n := 3) hC.1 (tz_cI _) (so_sipush (280) (280) (by decide +kernel) (by decide +kernel)) (sb_cons (n := 1) hC.1 (tz_cI _) (so_iconst (0) (0) (by decide +kernel) (by decide +kernel)) (sb_cons (n := 1) hC.1 (tz_cI _) (so_iconst (0) (0) (by decide +kernel) (by decide +kernel)) (sb_cons (n := 3) hC.1 (tz_cvV _ _ _) (xc_10 hC w646 (by decide +kernel)) (sb_cons (n := 1) hC.1 (tz_ldA _) (so_aload_n 1 (by decide +kernel)) (sb_cons (n := 1) hC.1 (tz_ldA _) (so_aload_n 0 (by decide +kernel)) (sb_cons (n := 3) hC.1 (tz_gI _ _) (xg_0_18 w447 (by decide +kernel)) (sb_cons (n := 3) hC.1 (tz_pI _ _) (xpN_9_16 w555 (by decide +kernel)) (sb_cons (n := 1) hC.1 (tz_ldA _) (so_aload_n 1 (by decide +kernel)) (sb_cons (n := 1) hC.1 (tz_cI _) (so_iconst (1) (1) (by decide +kernel) (by decide +kernel)) (sb_cons (n := 3) hC.1 (tz_pZ _ _) (xpN_9_11 w549 (by decide +kernel)) (sb_cons (n := 1) hC.1 (tz_ldA _) (so_aload_n 0 (by decide +kernel)) (sb_cons (n := 3) hC.1 (tz_cvV _ _ _) (xc_11 hC w672 (by decide +kernel)) (sb_cons (n := 1) hC.1 (tz_ldA _) (so_aload_n 0 (by decide +kernel)) (sb_cons (n := 3) hC.1 (tz_gR _ _) (xg_0_4 w433 (by decide +kernel)) (sb_cons (n := 3) hC.1 (tz_cI _) (so_sipush (278) (278) (by decide +kernel) (by decide +kernel)) (sb_cons (n := 1) hC.1 (tz_cJ _) (so_lconst 1 (1) (by decide +kernel) (by decide +kernel)) (sb_cons (n := 3) hC.1 (tz_cvV _ _ _) (xc_223 hC w677 (by decide +kernel)) (sb_cons (n := 1) hC.1 (tz_ldA _) (so_aload_n 0 (by decide +kernel)) (sb_cons (n := 1) hC.1 (tz_ldA _) (so_aload_n 1 (by decide +kernel)) (sb_cons (n := 3) hC.1 (tz_crV _ _ _) (xc_232 hC w681 (by decide +kernel)) (sb_cons (n := 3) hC.1 (tz_cvV _ _ _) (xc_9 hC w685 (by decide +kernel)) (sb_nil (tz_vret) (st_vret rfl (by decide +kernel))))))))))))))))))))))))))
theorem xm14 (hC : z_HC l G d z_tb C) : z_SM "QuotaPeers" prog_1_method_15_code 2 false d G l C ((Option.none : Option Jvm.ClassFile.FieldType)) xp14 xP14 := by
  intro b
  match b with
  | 0 => exact xb14_0 hC
  | _ + 1 => exact sb_dead
end
/-! QuotaPeers.answerHead(IIIIII)V -/
def xB15_0 : List z_Op × z_Tm := ([zo_ldA 0, zo_gR 0 4, zo_ldI 1, zo_cI (64), zo_ii ((· &&& ·)), zo_ldI 6, zo_cI (1000), zo_div, zo_cI (3)], zt_icmp (fun x y => x = y) 1 [false, false, true, true, true, true, false] 2 [false, false, true, true, true, true, false])
def xB15_1 : List z_Op × z_Tm := ([zo_cI (32)], zt_goto 3 [false, false, true, true, true, true, false])
def xB15_2 : List z_Op × z_Tm := ([zo_cI (0)], zt_goto 3 [false, false, true, true, true, true, false])
def xB15_3 : List z_Op × z_Tm := ([zo_ii ((· ||| ·)), zo_ldI 2, zo_ldI 3, zo_ldI 4, zo_ldI 5, zo_cvV 219 5 2], zt_vret)
def xp15 : Nat → Nat := fun b => ([0, 18, 23, 24] : List Nat).getD b 0
def xP15 : z_M := fun b => ([xB15_0, xB15_1, xB15_2, xB15_3] : List (List z_Op × z_Tm)).getD b z_dead
section
variable {d : Nat} {G : z_G} {l : Launch} {C : z_O}
theorem xb15_0 (hC : z_HC l G d z_tb C) : z_SB "QuotaPeers" prog_1_method_16_code 7 false d G l C ((Option.none : Option Jvm.ClassFile.FieldType)) xp15 0 xB15_0.1 xB15_0.2 := sb_cons (n := 1) hC.1 (tz_ldA _) (so_aload_n 0 (by decide +kernel)) (sb_cons (n := 3) hC.1 (tz_gR _ _) (xg_0_4 w433 (by decide +kernel)) (sb_cons (n := 1) hC.1 (tz_ldI _) (so_iload_n 1 (by decide +kernel)) (sb_cons (n := 2) hC.1 (tz_cI _) (so_bipush (64) (64) (by decide +kernel) (by decide +kernel)) (sb_cons (n := 1) hC.1 (tz_ii _) (so_iand (by decide +kernel)) (sb_cons (n := 2) hC.1 (tz_ldI _) (so_iload 6 (by decide +kernel)) (sb_cons (n := 3) hC.1 (tz_cI _) (so_sipush (1000) (1000) (by decide +kernel) (by decide +kernel)) (sb_cons (n := 1) hC.1 (tz_div) (so_idiv (by decide +kernel)) (sb_cons (n := 1) hC.1 (tz_cI _) (so_iconst (3) (3) (by decide +kernel) (by decide +kernel)) (sb_nil (tz_icmp _ _ _ _ _) (st_icmp_ne (off := 8) (by decide) (by decide) (by decide +kernel)))))))))))
theorem xb15_1 (hC : z_HC l G d z_tb C) : z_SB "QuotaPeers" prog_1_method_16_code 7 false d G l C ((Option.none : Option Jvm.ClassFile.FieldType)) xp15 18 xB15_1.1 xB15_1.2 := sb_cons (n := 2) hC.1 (tz_cI _) (so_bipush (32) (32) (by decide +kernel) (by decide +kernel)) (sb_nil (tz_goto _ _) (st_goto (off := 4) (by decide) (by decide +kernel)))
theorem xb15_2 (hC : z_HC l G d z_tb C) : z_SB "QuotaPeers" prog_1_method_16_code 7 false d G l C ((Option.none : Option Jvm.ClassFile.FieldType)) xp15 23 xB15_2.1 xB15_2.2 := sb_cons (n := 1) hC.1 (tz_cI _) (so_iconst (0) (0) (by decide +kernel) (by decide +kernel)) (sb_nil (tz_goto _ _) (st_fall (by decide)))
theorem xb15_3 (hC : z_HC l G d z_tb C) : z_SB "QuotaPeers" prog_1_method_16_code 7 false d G l C ((Option.none : Option Jvm.ClassFile.FieldType)) xp15 24 xB15_3.1 xB15_3.2 := sb_cons (n := 1) hC.1 (tz_ii _) (so_ior (by decide +kernel)) (sb_cons (n := 1) hC.1 (tz_ldI _) (so_iload_n 2 (by decide +kernel)) (sb_cons (n := 1) hC.1 (tz_ldI _) (so_iload_n 3 (by decide +kernel)) (sb_cons (n := 2) hC.1 (tz_ldI _) (so_iload 4 (by decide +kernel)) (sb_cons (n := 2) hC.1 (tz_ldI _) (so_iload 5 (by decide +kernel)) (sb_cons (n := 3) hC.1 (tz_cvV _ _ _) (xc_219 hC w650 (by decide +kernel)) (sb_nil (tz_vret) (st_vret rfl (by decide +kernel))))))))
theorem xm15 (hC : z_HC l G d z_tb C) : z_SM "QuotaPeers" prog_1_method_16_code 7 false d G l C ((Option.none : Option Jvm.ClassFile.FieldType)) xp15 xP15 := by
  intro b
  match b with
  | 0 => exact xb15_0 hC
  | 1 => exact xb15_1 hC
  | 2 => exact xb15_2 hC
  | 3 => exact xb15_3 hC
  | _ + 4 => exact sb_dead
end
/-! QuotaPeers.answer(LQuotaPeers$Message;I)V -/
def xB16_0 : List z_Op × z_Tm := ([zo_ldA 0, zo_ldA 1, zo_gI 3 3, zo_ldA 1, zo_gI 3 4, zo_ldA 1, zo_gI 3 5, zo_ldA 1, zo_gI 3 6, zo_ldA 1, zo_gI 3 7, zo_ldI 2, zo_cvV 15 6 0, zo_ldA 1, zo_gI 3 4, zo_cI (272)], zt_icmp (fun x y => x = y) 1 [true, true, true, false] 2 [true, true, true, false])
def xB16_1 : List z_Op × z_Tm := ([zo_ldA 1, zo_cI (263), zo_crV 205 1 3], zt_goto 3 [true, true, true, false])
def xB16_2 : List z_Op × z_Tm := ([zo_cI (-1)], zt_goto 3 [true, true, true, false])
def xB16_3 : List z_Op × z_Tm := ([zo_stI 3, zo_ldI 3], zt_if (fun x => x < 0) 5 [true, false, true, false] 4 [true, true, true, true])
def xB16_4 : List z_Op × z_Tm := ([zo_ldA 0, zo_gR 0 4, zo_cI (263), zo_ldA 1, zo_gR 3 1, zo_ldA 1, zo_gR 3 9, zo_ldI 3, zo_aldI 16, zo_ldA 1, zo_gR 3 10, zo_ldI 3, zo_aldI 16, zo_cvV 225 4 2], zt_goto 5 [true, false, true, false])
def xB16_5 : List z_Op × z_Tm := ([zo_ldA 0, zo_gR 0 4, zo_cI (268), zo_ldI 2, zo_i2l, zo_cvV 223 2 2, zo_ldA 0, zo_cvV 11 0 0], zt_vret)
def xp16 : Nat → Nat := fun b => ([0, 35, 45, 46, 51, 77] : List Nat).getD b 0
def xP16 : z_M := fun b => ([xB16_0, xB16_1, xB16_2, xB16_3, xB16_4, xB16_5] : List (List z_Op × z_Tm)).getD b z_dead
section
variable {d : Nat} {G : z_G} {l : Launch} {C : z_O}
theorem xb16_0 (hC : z_HC l G d z_tb C) : z_SB "QuotaPeers" prog_1_method_17_code 4 false d G l C ((Option.none : Option Jvm.ClassFile.FieldType)) xp16 0 xB16_0.1 xB16_0.2 := sb_cons (n := 1) hC.1 (tz_ldA _) (so_aload_n 0 (by decide +kernel)) (sb_cons (n := 1) hC.1 (tz_ldA _) (so_aload_n 1 (by decide +kernel)) (sb_cons (n := 3) hC.1 (tz_gI _ _) (xgN_3_3 w213 (by decide +kernel)) (sb_cons (n := 1) hC.1 (tz_ldA _) (so_aload_n 1 (by decide +kernel)) (sb_cons (n := 3) hC.1 (tz_gI _ _) (xgN_3_4 w215 (by decide +kernel)) (sb_cons (n := 1) hC.1 (tz_ldA _) (so_aload_n 1 (by decide +kernel)) (sb_cons (n := 3) hC.1 (tz_gI _ _) (xgN_3_5 w216 (by decide +kernel)) (sb_cons (n := 1) hC.1 (tz_ldA _) (so_aload_n 1 (by decide +kernel)) (sb_cons (n := 3) hC.1 (tz_gI _ _) (xgN_3_6 w218 (by decide +kernel)) (sb_cons (n := 1) hC.1 (tz_ldA _) (so_aload_n 1 (by decide +kernel)) (sb_cons (n := 3) hC.1 (tz_gI _ _) (xgN_3_7 w220 (by decide +kernel)) (sb_cons (n := 1) hC.1 (tz_ldI _) (so_iload_n 2 (by decide +kernel)) (sb_cons (n := 3) hC.1 (tz_cvV _ _ _) (xc_15 hC w749 (by decide +kernel)) (sb_cons (n := 1) hC.1 (tz_ldA _) (so_aload_n 1 (by decide +kernel)) (sb_cons (n := 3) hC.1 (tz_gI _ _) (xgN_3_4 w215 (by decide +kernel)) (sb_cons (n := 3) hC.1 (tz_cI _) (so_sipush (272) (272) (by decide +kernel) (by decide +kernel)) (sb_nil (tz_icmp _ _ _ _ _) (st_icmp_ne (off := 13) (by decide) (by decide) (by decide +kernel))))))))))))))))))
theorem xb16_1 (hC : z_HC l G d z_tb C) : z_SB "QuotaPeers" prog_1_method_17_code 4 false d G l C ((Option.none : Option Jvm.ClassFile.FieldType)) xp16 35 xB16_1.1 xB16_1.2 := sb_cons (n := 1) hC.1 (tz_ldA _) (so_aload_n 1 (by decide +kernel)) (sb_cons (n := 3) hC.1 (tz_cI _) (so_sipush (263) (263) (by decide +kernel) (by decide +kernel)) (sb_cons (n := 3) hC.1 (tz_crV _ _ _) (xc_205 hC w865 (by decide +kernel)) (sb_nil (tz_goto _ _) (st_goto (off := 4) (by decide) (by decide +kernel)))))
theorem xb16_2 (hC : z_HC l G d z_tb C) : z_SB "QuotaPeers" prog_1_method_17_code 4 false d G l C ((Option.none : Option Jvm.ClassFile.FieldType)) xp16 45 xB16_2.1 xB16_2.2 := sb_cons (n := 1) hC.1 (tz_cI _) (so_iconst (-1) (-1) (by decide +kernel) (by decide +kernel)) (sb_nil (tz_goto _ _) (st_fall (by decide)))
theorem xb16_3 (hC : z_HC l G d z_tb C) : z_SB "QuotaPeers" prog_1_method_17_code 4 false d G l C ((Option.none : Option Jvm.ClassFile.FieldType)) xp16 46 xB16_3.1 xB16_3.2 := sb_cons (n := 1) hC.1 (tz_stI _) (so_istore_n 3 (by decide) (by decide +kernel)) (sb_cons (n := 1) hC.1 (tz_ldI _) (so_iload_n 3 (by decide +kernel)) (sb_nil (tz_if _ _ _ _ _) (st_if_lt (off := 29) (by decide) (by decide) (by decide +kernel))))
theorem xb16_4 (hC : z_HC l G d z_tb C) : z_SB "QuotaPeers" prog_1_method_17_code 4 false d G l C ((Option.none : Option Jvm.ClassFile.FieldType)) xp16 51 xB16_4.1 xB16_4.2 := sb_cons (n := 1) hC.1 (tz_ldA _) (so_aload_n 0 (by decide +kernel)) (sb_cons (n := 3) hC.1 (tz_gR _ _) (xg_0_4 w433 (by decide +kernel)) (sb_cons (n := 3) hC.1 (tz_cI _) (so_sipush (263) (263) (by decide +kernel) (by decide +kernel)) (sb_cons (n := 1) hC.1 (tz_ldA _) (so_aload_n 1 (by decide +kernel)) (sb_cons (n := 3) hC.1 (tz_gR _ _) (xgN_3_1 w210 (by decide +kernel)) (sb_cons (n := 1) hC.1 (tz_ldA _) (so_aload_n 1 (by decide +kernel)) (sb_cons (n := 3) hC.1 (tz_gR _ _) (xgN_3_9 w225 (by decide +kernel)) (sb_cons (n := 1) hC.1 (tz_ldI _) (so_iload_n 3 (by decide +kernel)) (sb_cons (n := 1) hC.1 (tz_aldI _) (so_iaload (by decide +kernel)) (sb_cons (n := 1) hC.1 (tz_ldA _) (so_aload_n 1 (by decide +kernel)) (sb_cons (n := 3) hC.1 (tz_gR _ _) (xgN_3_10 w227 (by decide +kernel)) (sb_cons (n := 1) hC.1 (tz_ldI _) (so_iload_n 3 (by decide +kernel)) (sb_cons (n := 1) hC.1 (tz_aldI _) (so_iaload (by decide +kernel)) (sb_cons (n := 3) hC.1 (tz_cvV _ _ _) (xc_225 hC w866 (by decide +kernel)) (sb_nil (tz_goto _ _) (st_fall (by decide))))))))))))))))
theorem xb16_5 (hC : z_HC l G d z_tb C) : z_SB "QuotaPeers" prog_1_method_17_code 4 false d G l C ((Option.none : Option Jvm.ClassFile.FieldType)) xp16 77 xB16_5.1 xB16_5.2 := sb_cons (n := 1) hC.1 (tz_ldA _) (so_aload_n 0 (by decide +kernel)) (sb_cons (n := 3) hC.1 (tz_gR _ _) (xg_0_4 w433 (by decide +kernel)) (sb_cons (n := 3) hC.1 (tz_cI _) (so_sipush (268) (268) (by decide +kernel) (by decide +kernel)) (sb_cons (n := 1) hC.1 (tz_ldI _) (so_iload_n 2 (by decide +kernel)) (sb_cons (n := 1) hC.1 (tz_i2l) (so_i2l (by decide +kernel)) (sb_cons (n := 3) hC.1 (tz_cvV _ _ _) (xc_223 hC w677 (by decide +kernel)) (sb_cons (n := 1) hC.1 (tz_ldA _) (so_aload_n 0 (by decide +kernel)) (sb_cons (n := 3) hC.1 (tz_cvV _ _ _) (xc_11 hC w672 (by decide +kernel)) (sb_nil (tz_vret) (st_vret rfl (by decide +kernel))))))))))
theorem xm16 (hC : z_HC l G d z_tb C) : z_SM "QuotaPeers" prog_1_method_17_code 4 false d G l C ((Option.none : Option Jvm.ClassFile.FieldType)) xp16 xP16 := by
  intro b
  match b with
  | 0 => exact xb16_0 hC
  | 1 => exact xb16_1 hC
  | 2 => exact xb16_2 hC
  | 3 => exact xb16_3 hC
  | 4 => exact xb16_4 hC
  | 5 => exact xb16_5 hC
  | _ + 6 => exact sb_dead
end
/-! QuotaPeers.answerWrong(LQuotaPeers$Link;LQuotaPeers$Message;)V -/
def xB17_0 : List z_Op × z_Tm := ([zo_ldA 0, zo_ldA 2, zo_ldA 2, zo_gI 3 12, zo_cvV 16 2 0, zo_ldA 2, zo_crV 215 0 3], zt_if (fun x => x = 0) 2 [true, true, false] 1 [true, true, true])
def xB17_1 : List z_Op × z_Tm := ([zo_ldA 0, zo_gR 0 4, zo_ldA 2, zo_gI 3 13, zo_cvV 228 1 2], zt_goto 2 [true, true, false])
def xB17_2 : List z_Op × z_Tm := ([zo_ldA 0, zo_ldA 1, zo_cvV 9 1 0], zt_vret)
def xp17 : Nat → Nat := fun b => ([0, 16, 27] : List Nat).getD b 0
def xP17 : z_M := fun b => ([xB17_0, xB17_1, xB17_2] : List (List z_Op × z_Tm)).getD b z_dead
section
variable {d : Nat} {G : z_G} {l : Launch} {C : z_O}
theorem xb17_0 (hC : z_HC l G d z_tb C) : z_SB "QuotaPeers" prog_1_method_18_code 3 false d G l C ((Option.none : Option Jvm.ClassFile.FieldType)) xp17 0 xB17_0.1 xB17_0.2 := sb_cons (n := 1) hC.1 (tz_ldA _) (so_aload_n 0 (by decide +kernel)) (sb_cons (n := 1) hC.1 (tz_ldA _) (so_aload_n 2 (by decide +kernel)) (sb_cons (n := 1) hC.1 (tz_ldA _) (so_aload_n 2 (by decide +kernel)) (sb_cons (n := 3) hC.1 (tz_gI _ _) (xgN_3_12 w231 (by decide +kernel)) (sb_cons (n := 3) hC.1 (tz_cvV _ _ _) (xc_16 hC w861 (by decide +kernel)) (sb_cons (n := 1) hC.1 (tz_ldA _) (so_aload_n 2 (by decide +kernel)) (sb_cons (n := 3) hC.1 (tz_crV _ _ _) (xc_215 hC w870 (by decide +kernel)) (sb_nil (tz_if _ _ _ _ _) (st_if_eq (off := 14) (by decide) (by decide) (by decide +kernel)))))))))
theorem xb17_1 (hC : z_HC l G d z_tb C) : z_SB "QuotaPeers" prog_1_method_18_code 3 false d G l C ((Option.none : Option Jvm.ClassFile.FieldType)) xp17 16 xB17_1.1 xB17_1.2 := sb_cons (n := 1) hC.1 (tz_ldA _) (so_aload_n 0 (by decide +kernel)) (sb_cons (n := 3) hC.1 (tz_gR _ _) (xg_0_4 w433 (by decide +kernel)) (sb_cons (n := 1) hC.1 (tz_ldA _) (so_aload_n 2 (by decide +kernel)) (sb_cons (n := 3) hC.1 (tz_gI _ _) (xgN_3_13 w233 (by decide +kernel)) (sb_cons (n := 3) hC.1 (tz_cvV _ _ _) (xc_228 hC w874 (by decide +kernel)) (sb_nil (tz_goto _ _) (st_fall (by decide)))))))
theorem xb17_2 (hC : z_HC l G d z_tb C) : z_SB "QuotaPeers" prog_1_method_18_code 3 false d G l C ((Option.none : Option Jvm.ClassFile.FieldType)) xp17 27 xB17_2.1 xB17_2.2 := sb_cons (n := 1) hC.1 (tz_ldA _) (so_aload_n 0 (by decide +kernel)) (sb_cons (n := 1) hC.1 (tz_ldA _) (so_aload_n 1 (by decide +kernel)) (sb_cons (n := 3) hC.1 (tz_cvV _ _ _) (xc_9 hC w685 (by decide +kernel)) (sb_nil (tz_vret) (st_vret rfl (by decide +kernel)))))
theorem xm17 (hC : z_HC l G d z_tb C) : z_SM "QuotaPeers" prog_1_method_18_code 3 false d G l C ((Option.none : Option Jvm.ClassFile.FieldType)) xp17 xP17 := by
  intro b
  match b with
  | 0 => exact xb17_0 hC
  | 1 => exact xb17_1 hC
  | 2 => exact xb17_2 hC
  | _ + 3 => exact sb_dead
end
/-! QuotaPeers.answerPlain(LQuotaPeers$Link;LQuotaPeers$Message;I)V -/
def xB18_0 : List z_Op × z_Tm := ([zo_ldA 0, zo_ldA 2, zo_ldI 3, zo_cvV 16 2 0, zo_ldA 0, zo_ldA 1, zo_cvV 9 1 0], zt_vret)
def xp18 : Nat → Nat := fun b => ([0] : List Nat).getD b 0
def xP18 : z_M := fun b => ([xB18_0] : List (List z_Op × z_Tm)).getD b z_dead
section
variable {d : Nat} {G : z_G} {l : Launch} {C : z_O}
theorem xb18_0 (hC : z_HC l G d z_tb C) : z_SB "QuotaPeers" prog_1_method_19_code 4 false d G l C ((Option.none : Option Jvm.ClassFile.FieldType)) xp18 0 xB18_0.1 xB18_0.2 := sb_cons (n := 1) hC.1 (tz_ldA _) (so_aload_n 0 (by decide +kernel)) (sb_cons (n := 1) hC.1 (tz_ldA _) (so_aload_n 2 (by decide +kernel)) (sb_cons (n := 1) hC.1 (tz_ldI _) (so_iload_n 3 (by decide +kernel)) (sb_cons (n := 3) hC.1 (tz_cvV _ _ _) (xc_16 hC w861 (by decide +kernel)) (sb_cons (n := 1) hC.1 (tz_ldA _) (so_aload_n 0 (by decide +kernel)) (sb_cons (n := 1) hC.1 (tz_ldA _) (so_aload_n 1 (by decide +kernel)) (sb_cons (n := 3) hC.1 (tz_cvV _ _ _) (xc_9 hC w685 (by decide +kernel)) (sb_nil (tz_vret) (st_vret rfl (by decide +kernel)))))))))
theorem xm18 (hC : z_HC l G d z_tb C) : z_SM "QuotaPeers" prog_1_method_19_code 4 false d G l C ((Option.none : Option Jvm.ClassFile.FieldType)) xp18 xP18 := by
  intro b
  match b with
  | 0 => exact xb18_0 hC
  | _ + 1 => exact sb_dead
end
/-! QuotaPeers.answerCame(LQuotaPeers$Peer;)V -/
def xB19_0 : List z_Op × z_Tm := ([zo_ldA 0, zo_ldA 1, zo_gI 9 7, zo_cI (257), zo_cI (0), zo_ldA 1, zo_gI 9 8, zo_ldA 1, zo_gI 9 9, zo_cI (2001), zo_cvV 15 6 0, zo_ldA 0, zo_gR 0 4, zo_cI (268), zo_cJ (2001), zo_cvV 223 2 2, zo_ldA 0, zo_cvV 11 0 0, zo_ldA 0, zo_cvV 12 0 0, zo_ldA 0, zo_ldA 1, zo_gR 9 6, zo_cvV 9 1 0], zt_vret)
def xp19 : Nat → Nat := fun b => ([0] : List Nat).getD b 0
def xP19 : z_M := fun b => ([xB19_0] : List (List z_Op × z_Tm)).getD b z_dead
section
variable {d : Nat} {G : z_G} {l : Launch} {C : z_O}
theorem xb19_0 (hC : z_HC l G d z_tb C) : z_SB "QuotaPeers" prog_1_method_20_code 2 false d G l C ((Option.none : Option Jvm.ClassFile.FieldType)) xp19 0 xB19_0.1 xB19_0.2 := sb_cons (n := 1) hC.1 (tz_ldA _) (so_aload_n 0 (by decide +kernel)) (sb_cons (n := 1) hC.1 (tz_ldA _) (so_aload_n 1 (by decide +kernel)) (sb_cons (n := 3) hC.1 (tz_gI _ _) (xgN_9_7 w544 (by decide +kernel)) (sb_cons (n := 3) hC.1 (tz_cI _) (so_sipush (257) (257) (by decide +kernel) (by decide +kernel)) (sb_cons (n := 1) hC.1 (tz_cI _) (so_iconst (0) (0) (by decide +kernel) (by decide +kernel)) (sb_cons (n := 1) hC.1 (tz_ldA _) (so_aload_n 1 (by decide +kernel)) (sb_cons (n := 3) hC.1 (tz_gI _ _) (xgN_9_8 w545 (by decide +kernel)) (sb_cons (n := 1) hC.1 (tz_ldA _) (so_aload_n 1 (by decide +kernel)) (sb_cons (n := 3) hC.1 (tz_gI _ _) (xgN_9_9 w546 (by decide +kernel)) (sb_cons (n := 3) hC.1 (tz_cI _) (so_sipush (2001) (2001) (by decide +kernel) (by decide +kernel)) (sb_cons (n := 3) hC.1 (tz_cvV _ _ _) (xc_15 hC w749 (by decide +kernel)) (sb_cons (n := 1) hC.1 (tz_ldA _) (so_aload_n 0 (by decide +kernel)) (sb_cons (n := 3) hC.1 (tz_gR _ _) (xg_0_4 w433 (by decide +kernel)) (sb_cons (n := 3) hC.1 (tz_cI _) (so_sipush (268) (268) (by decide +kernel) (by decide +kernel)) (sb_cons (n := 3) hC.1 (tz_cJ _) (so_ldc2 252 (2001) w753 (by decide +kernel)) (sb_cons (n := 3) hC.1 (tz_cvV _ _ _) (xc_223 hC w677 (by decide +kernel)) (sb_cons (n := 1) hC.1 (tz_ldA _) (so_aload_n 0 (by decide +kernel)) (sb_cons (n := 3) hC.1 (tz_cvV _ _ _) (xc_11 hC w672 (by decide +kernel)) (sb_cons (n := 1) hC.1 (tz_ldA _) (so_aload_n 0 (by decide +kernel)) (sb_cons (n := 3) hC.1 (tz_cvV _ _ _) (xc_12 hC w754 (by decide +kernel)) (sb_cons (n := 1) hC.1 (tz_ldA _) (so_aload_n 0 (by decide +kernel)) (sb_cons (n := 1) hC.1 (tz_ldA _) (so_aload_n 1 (by decide +kernel)) (sb_cons (n := 3) hC.1 (tz_gR _ _) (xgN_9_6 w543 (by decide +kernel)) (sb_cons (n := 3) hC.1 (tz_cvV _ _ _) (xc_9 hC w685 (by decide +kernel)) (sb_nil (tz_vret) (st_vret rfl (by decide +kernel))))))))))))))))))))))))))
theorem xm19 (hC : z_HC l G d z_tb C) : z_SM "QuotaPeers" prog_1_method_20_code 2 false d G l C ((Option.none : Option Jvm.ClassFile.FieldType)) xp19 xP19 := by
  intro b
  match b with
  | 0 => exact xb19_0 hC
  | _ + 1 => exact sb_dead
end
/-! QuotaPeers.closeOwn(LQuotaPeers$Peer;)V -/
def xB20_0 : List z_Op × z_Tm := ([zo_ldA 0, zo_gR 9 5], zt_null 2 [true] 1 [true])
def xB20_1 : List z_Op × z_Tm := ([zo_ldA 0, zo_gR 9 5, zo_cvV 193 0 4], zt_goto 2 [true])
def xB20_2 : List z_Op × z_Tm := ([zo_ldA 0, zo_null, zo_pR 9 5], zt_vret)
def xp20 : Nat → Nat := fun b => ([0, 7, 14] : List Nat).getD b 0
def xP20 : z_M := fun b => ([xB20_0, xB20_1, xB20_2] : List (List z_Op × z_Tm)).getD b z_dead
section
variable {d : Nat} {G : z_G} {l : Launch} {C : z_O}
theorem xb20_0 (hC : z_HC l G d z_tb C) : z_SB "QuotaPeers" prog_1_method_21_code 1 false d G l C ((Option.none : Option Jvm.ClassFile.FieldType)) xp20 0 xB20_0.1 xB20_0.2 := sb_cons (n := 1) hC.1 (tz_ldA _) (so_aload_n 0 (by decide +kernel)) (sb_cons (n := 3) hC.1 (tz_gR _ _) (xgN_9_5 w541 (by decide +kernel)) (sb_nil (tz_nul _ _ _ _) (st_ifnull (off := 10) (by decide) (by decide) (by decide +kernel))))
theorem xb20_1 (hC : z_HC l G d z_tb C) : z_SB "QuotaPeers" prog_1_method_21_code 1 false d G l C ((Option.none : Option Jvm.ClassFile.FieldType)) xp20 7 xB20_1.1 xB20_1.2 := sb_cons (n := 1) hC.1 (tz_ldA _) (so_aload_n 0 (by decide +kernel)) (sb_cons (n := 3) hC.1 (tz_gR _ _) (xgN_9_5 w541 (by decide +kernel)) (sb_cons (n := 3) hC.1 (tz_cvV _ _ _) (xc_193 hC w731 (by decide +kernel)) (sb_nil (tz_goto _ _) (st_fall (by decide)))))
theorem xb20_2 (hC : z_HC l G d z_tb C) : z_SB "QuotaPeers" prog_1_method_21_code 1 false d G l C ((Option.none : Option Jvm.ClassFile.FieldType)) xp20 14 xB20_2.1 xB20_2.2 := sb_cons (n := 1) hC.1 (tz_ldA _) (so_aload_n 0 (by decide +kernel)) (sb_cons (n := 1) hC.1 (tz_null) (so_null (by decide +kernel)) (sb_cons (n := 3) hC.1 (tz_pR _ _) (xpN_9_5 w541 (by decide +kernel)) (sb_nil (tz_vret) (st_vret rfl (by decide +kernel)))))
theorem xm20 (hC : z_HC l G d z_tb C) : z_SM "QuotaPeers" prog_1_method_21_code 1 false d G l C ((Option.none : Option Jvm.ClassFile.FieldType)) xp20 xP20 := by
  intro b
  match b with
  | 0 => exact xb20_0 hC
  | 1 => exact xb20_1 hC
  | 2 => exact xb20_2 hC
  | _ + 3 => exact sb_dead
end
/-! QuotaPeers.closeCame(LQuotaPeers$Peer;)V -/
def xB21_0 : List z_Op × z_Tm := ([zo_ldA 0, zo_gR 9 6], zt_null 2 [true] 1 [true])
def xB21_1 : List z_Op × z_Tm := ([zo_ldA 0, zo_gR 9 6, zo_cvV 193 0 4], zt_goto 2 [true])
def xB21_2 : List z_Op × z_Tm := ([zo_ldA 0, zo_null, zo_pR 9 6], zt_vret)
def xp21 : Nat → Nat := fun b => ([0, 7, 14] : List Nat).getD b 0
def xP21 : z_M := fun b => ([xB21_0, xB21_1, xB21_2] : List (List z_Op × z_Tm)).getD b z_dead
section
variable {d : Nat} {G : z_G} {l : Launch} {C : z_O}
theorem xb21_0 (hC : z_HC l G d z_tb C) : z_SB "QuotaPeers" prog_1_method_22_code 1 false d G l C ((Option.none : Option Jvm.ClassFile.FieldType)) xp21 0 xB21_0.1 xB21_0.2 := sb_cons (n := 1) hC.1 (tz_ldA _) (so_aload_n 0 (by decide +kernel)) (sb_cons (n := 3) hC.1 (tz_gR _ _) (xgN_9_6 w543 (by decide +kernel)) (sb_nil (tz_nul _ _ _ _) (st_ifnull (off := 10) (by decide) (by decide) (by decide +kernel))))
theorem xb21_1 (hC : z_HC l G d z_tb C) : z_SB "QuotaPeers" prog_1_method_22_code 1 false d G l C ((Option.none : Option Jvm.ClassFile.FieldType)) xp21 7 xB21_1.1 xB21_1.2 := sb_cons (n := 1) hC.1 (tz_ldA _) (so_aload_n 0 (by decide +kernel)) (sb_cons (n := 3) hC.1 (tz_gR _ _) (xgN_9_6 w543 (by decide +kernel)) (sb_cons (n := 3) hC.1 (tz_cvV _ _ _) (xc_193 hC w731 (by decide +kernel)) (sb_nil (tz_goto _ _) (st_fall (by decide)))))
theorem xb21_2 (hC : z_HC l G d z_tb C) : z_SB "QuotaPeers" prog_1_method_22_code 1 false d G l C ((Option.none : Option Jvm.ClassFile.FieldType)) xp21 14 xB21_2.1 xB21_2.2 := sb_cons (n := 1) hC.1 (tz_ldA _) (so_aload_n 0 (by decide +kernel)) (sb_cons (n := 1) hC.1 (tz_null) (so_null (by decide +kernel)) (sb_cons (n := 3) hC.1 (tz_pR _ _) (xpN_9_6 w543 (by decide +kernel)) (sb_nil (tz_vret) (st_vret rfl (by decide +kernel)))))
theorem xm21 (hC : z_HC l G d z_tb C) : z_SM "QuotaPeers" prog_1_method_22_code 1 false d G l C ((Option.none : Option Jvm.ClassFile.FieldType)) xp21 xP21 := by
  intro b
  match b with
  | 0 => exact xb21_0 hC
  | 1 => exact xb21_1 hC
  | 2 => exact xb21_2 hC
  | _ + 3 => exact sb_dead
end
/-! QuotaPeers.enter(LQuotaPeers$Peer;I)V -/
def xB22_0 : List z_Op × z_Tm := ([zo_ldA 1, zo_crV 230 0 9, zo_stI 3, zo_ldA 1, zo_ldI 2, zo_pI 9 3, zo_ldA 1, zo_ldA 0, zo_gI 0 17, zo_cI (10), zo_ii ((· + ·)), zo_pI 9 4, zo_ldI 3], zt_if (fun x => x = 0) 3 [true, true, false, true] 1 [true, true, false, true])
def xB22_1 : List z_Op × z_Tm := ([zo_ldA 1, zo_crV 230 0 9], zt_if (fun x => x = 0) 2 [true, true, false, true] 3 [true, true, false, true])
def xB22_2 : List z_Op × z_Tm := ([zo_ldA 0, zo_ldA 1, zo_cvV 24 1 0], zt_goto 3 [true, true, false, true])
def xB22_3 : List z_Op × z_Tm := ([zo_ldI 3], zt_if (fun x => x = 0) 4 [true, true, false, false] 6 [false, false, false, false])
def xB22_4 : List z_Op × z_Tm := ([zo_ldA 1, zo_crV 230 0 9], zt_if (fun x => x = 0) 6 [false, false, false, false] 5 [true, true, false, false])
def xB22_5 : List z_Op × z_Tm := ([zo_ldA 0, zo_ldA 1, zo_cvV 23 1 0], zt_goto 6 [false, false, false, false])
def xB22_6 : List z_Op × z_Tm := ([], zt_vret)
def xp22 : Nat → Nat := fun b => ([0, 25, 32, 37, 41, 48, 53] : List Nat).getD b 0
def xP22 : z_M := fun b => ([xB22_0, xB22_1, xB22_2, xB22_3, xB22_4, xB22_5, xB22_6] : List (List z_Op × z_Tm)).getD b z_dead
section
variable {d : Nat} {G : z_G} {l : Launch} {C : z_O}
theorem xb22_0 (hC : z_HC l G d z_tb C) : z_SB "QuotaPeers" prog_1_method_23_code 4 false d G l C ((Option.none : Option Jvm.ClassFile.FieldType)) xp22 0 xB22_0.1 xB22_0.2 := sb_cons (n := 1) hC.1 (tz_ldA _) (so_aload_n 1 (by decide +kernel)) (sb_cons (n := 3) hC.1 (tz_crV _ _ _) (xc_230 hC w621 (by decide +kernel)) (sb_cons (n := 1) hC.1 (tz_stI _) (so_istore_n 3 (by decide) (by decide +kernel)) (sb_cons (n := 1) hC.1 (tz_ldA _) (so_aload_n 1 (by decide +kernel)) (sb_cons (n := 1) hC.1 (tz_ldI _) (so_iload_n 2 (by decide +kernel)) (sb_cons (n := 3) hC.1 (tz_pI _ _) (xpN_9_3 w538 (by decide +kernel)) (sb_cons (n := 1) hC.1 (tz_ldA _) (so_aload_n 1 (by decide +kernel)) (sb_cons (n := 1) hC.1 (tz_ldA _) (so_aload_n 0 (by decide +kernel)) (sb_cons (n := 3) hC.1 (tz_gI _ _) (xg_0_17 w446 (by decide +kernel)) (sb_cons (n := 2) hC.1 (tz_cI _) (so_bipush (10) (10) (by decide +kernel) (by decide +kernel)) (sb_cons (n := 1) hC.1 (tz_ii _) (so_iadd (by decide +kernel)) (sb_cons (n := 3) hC.1 (tz_pI _ _) (xpN_9_4 w539 (by decide +kernel)) (sb_cons (n := 1) hC.1 (tz_ldI _) (so_iload_n 3 (by decide +kernel)) (sb_nil (tz_if _ _ _ _ _) (st_if_eq (off := 15) (by decide) (by decide) (by decide +kernel)))))))))))))))
theorem xb22_1 (hC : z_HC l G d z_tb C) : z_SB "QuotaPeers" prog_1_method_23_code 4 false d G l C ((Option.none : Option Jvm.ClassFile.FieldType)) xp22 25 xB22_1.1 xB22_1.2 := sb_cons (n := 1) hC.1 (tz_ldA _) (so_aload_n 1 (by decide +kernel)) (sb_cons (n := 3) hC.1 (tz_crV _ _ _) (xc_230 hC w621 (by decide +kernel)) (sb_nil (tz_if _ _ _ _ _) (st_if_ne (off := 8) (by decide) (by decide) (by decide +kernel))))
theorem xb22_2 (hC : z_HC l G d z_tb C) : z_SB "QuotaPeers" prog_1_method_23_code 4 false d G l C ((Option.none : Option Jvm.ClassFile.FieldType)) xp22 32 xB22_2.1 xB22_2.2 := sb_cons (n := 1) hC.1 (tz_ldA _) (so_aload_n 0 (by decide +kernel)) (sb_cons (n := 1) hC.1 (tz_ldA _) (so_aload_n 1 (by decide +kernel)) (sb_cons (n := 3) hC.1 (tz_cvV _ _ _) (xc_24 hC w625 (by decide +kernel)) (sb_nil (tz_goto _ _) (st_fall (by decide)))))
theorem xb22_3 (hC : z_HC l G d z_tb C) : z_SB "QuotaPeers" prog_1_method_23_code 4 false d G l C ((Option.none : Option Jvm.ClassFile.FieldType)) xp22 37 xB22_3.1 xB22_3.2 := sb_cons (n := 1) hC.1 (tz_ldI _) (so_iload_n 3 (by decide +kernel)) (sb_nil (tz_if _ _ _ _ _) (st_if_ne (off := 15) (by decide) (by decide) (by decide +kernel)))
theorem xb22_4 (hC : z_HC l G d z_tb C) : z_SB "QuotaPeers" prog_1_method_23_code 4 false d G l C ((Option.none : Option Jvm.ClassFile.FieldType)) xp22 41 xB22_4.1 xB22_4.2 := sb_cons (n := 1) hC.1 (tz_ldA _) (so_aload_n 1 (by decide +kernel)) (sb_cons (n := 3) hC.1 (tz_crV _ _ _) (xc_230 hC w621 (by decide +kernel)) (sb_nil (tz_if _ _ _ _ _) (st_if_eq (off := 8) (by decide) (by decide) (by decide +kernel))))
theorem xb22_5 (hC : z_HC l G d z_tb C) : z_SB "QuotaPeers" prog_1_method_23_code 4 false d G l C ((Option.none : Option Jvm.ClassFile.FieldType)) xp22 48 xB22_5.1 xB22_5.2 := sb_cons (n := 1) hC.1 (tz_ldA _) (so_aload_n 0 (by decide +kernel)) (sb_cons (n := 1) hC.1 (tz_ldA _) (so_aload_n 1 (by decide +kernel)) (sb_cons (n := 3) hC.1 (tz_cvV _ _ _) (xc_23 hC w702 (by decide +kernel)) (sb_nil (tz_goto _ _) (st_fall (by decide)))))
theorem xb22_6 (hC : z_HC l G d z_tb C) : z_SB "QuotaPeers" prog_1_method_23_code 4 false d G l C ((Option.none : Option Jvm.ClassFile.FieldType)) xp22 53 xB22_6.1 xB22_6.2 := sb_nil (tz_vret) (st_vret rfl (by decide +kernel))
theorem xm22 (hC : z_HC l G d z_tb C) : z_SM "QuotaPeers" prog_1_method_23_code 4 false d G l C ((Option.none : Option Jvm.ClassFile.FieldType)) xp22 xP22 := by
  intro b
  match b with
  | 0 => exact xb22_0 hC
  | 1 => exact xb22_1 hC
  | 2 => exact xb22_2 hC
  | 3 => exact xb22_3 hC
  | 4 => exact xb22_4 hC
  | 5 => exact xb22_5 hC
  | 6 => exact xb22_6 hC
  | _ + 7 => exact sb_dead
end
/-! QuotaPeers.comeUp(LQuotaPeers$Peer;)V -/
def xB23_0 : List z_Op × z_Tm := ([zo_ldA 1, zo_ldA 0, zo_gI 0 17, zo_cI (30), zo_ii ((· + ·)), zo_pI 9 12, zo_ldA 1, zo_gI 9 10], zt_if (fun x => x = 0) 1 [false, true] 2 [true, true])
def xB23_1 : List z_Op × z_Tm := ([zo_ldA 1, zo_cI (1), zo_pI 9 10], zt_vret)
def xB23_2 : List z_Op × z_Tm := ([zo_ldA 1, zo_cI (4), zo_pI 9 10, zo_ldA 1, zo_cI (0), zo_pI 9 14, zo_ldA 0, zo_ldA 1, zo_cvV 14 1 0], zt_vret)
def xp23 : Nat → Nat := fun b => ([0, 18, 24] : List Nat).getD b 0
def xP23 : z_M := fun b => ([xB23_0, xB23_1, xB23_2] : List (List z_Op × z_Tm)).getD b z_dead
section
variable {d : Nat} {G : z_G} {l : Launch} {C : z_O}
theorem xb23_0 (hC : z_HC l G d z_tb C) : z_SB "QuotaPeers" prog_1_method_24_code 2 false d G l C ((Option.none : Option Jvm.ClassFile.FieldType)) xp23 0 xB23_0.1 xB23_0.2 := sb_cons (n := 1) hC.1 (tz_ldA _) (so_aload_n 1 (by decide +kernel)) (sb_cons (n := 1) hC.1 (tz_ldA _) (so_aload_n 0 (by decide +kernel)) (sb_cons (n := 3) hC.1 (tz_gI _ _) (xg_0_17 w446 (by decide +kernel)) (sb_cons (n := 2) hC.1 (tz_cI _) (so_bipush (30) (30) (by decide +kernel) (by decide +kernel)) (sb_cons (n := 1) hC.1 (tz_ii _) (so_iadd (by decide +kernel)) (sb_cons (n := 3) hC.1 (tz_pI _ _) (xpN_9_12 w551 (by decide +kernel)) (sb_cons (n := 1) hC.1 (tz_ldA _) (so_aload_n 1 (by decide +kernel)) (sb_cons (n := 3) hC.1 (tz_gI _ _) (xgN_9_10 w548 (by decide +kernel)) (sb_nil (tz_if _ _ _ _ _) (st_if_ne (off := 9) (by decide) (by decide) (by decide +kernel))))))))))
theorem xb23_1 (hC : z_HC l G d z_tb C) : z_SB "QuotaPeers" prog_1_method_24_code 2 false d G l C ((Option.none : Option Jvm.ClassFile.FieldType)) xp23 18 xB23_1.1 xB23_1.2 := sb_cons (n := 1) hC.1 (tz_ldA _) (so_aload_n 1 (by decide +kernel)) (sb_cons (n := 1) hC.1 (tz_cI _) (so_iconst (1) (1) (by decide +kernel) (by decide +kernel)) (sb_cons (n := 3) hC.1 (tz_pI _ _) (xpN_9_10 w548 (by decide +kernel)) (sb_nil (tz_vret) (st_vret rfl (by decide +kernel)))))
theorem xb23_2 (hC : z_HC l G d z_tb C) : z_SB "QuotaPeers" prog_1_method_24_code 2 false d G l C ((Option.none : Option Jvm.ClassFile.FieldType)) xp23 24 xB23_2.1 xB23_2.2 := sb_cons (n := 1) hC.1 (tz_ldA _) (so_aload_n 1 (by decide +kernel)) (sb_cons (n := 1) hC.1 (tz_cI _) (so_iconst (4) (4) (by decide +kernel) (by decide +kernel)) (sb_cons (n := 3) hC.1 (tz_pI _ _) (xpN_9_10 w548 (by decide +kernel)) (sb_cons (n := 1) hC.1 (tz_ldA _) (so_aload_n 1 (by decide +kernel)) (sb_cons (n := 1) hC.1 (tz_cI _) (so_iconst (0) (0) (by decide +kernel) (by decide +kernel)) (sb_cons (n := 3) hC.1 (tz_pI _ _) (xpN_9_14 w553 (by decide +kernel)) (sb_cons (n := 1) hC.1 (tz_ldA _) (so_aload_n 0 (by decide +kernel)) (sb_cons (n := 1) hC.1 (tz_ldA _) (so_aload_n 1 (by decide +kernel)) (sb_cons (n := 3) hC.1 (tz_cvV _ _ _) (xc_14 hC w706 (by decide +kernel)) (sb_nil (tz_vret) (st_vret rfl (by decide +kernel)))))))))))
theorem xm23 (hC : z_HC l G d z_tb C) : z_SM "QuotaPeers" prog_1_method_24_code 2 false d G l C ((Option.none : Option Jvm.ClassFile.FieldType)) xp23 xP23 := by
  intro b
  match b with
  | 0 => exact xb23_0 hC
  | 1 => exact xb23_1 hC
  | 2 => exact xb23_2 hC
  | _ + 3 => exact sb_dead
end
/-! QuotaPeers.leave(LQuotaPeers$Peer;)V -/
def xB24_0 : List z_Op × z_Tm := ([zo_ldA 1, zo_cI (3), zo_pI 9 10, zo_ldA 1, zo_cI (0), zo_pZ 9 11, zo_ldA 1, zo_ldA 0, zo_gI 0 17, zo_cI (30), zo_ii ((· + ·)), zo_pI 9 12, zo_ldA 0, zo_ldA 1, zo_cvV 44 1 0], zt_vret)
def xp24 : Nat → Nat := fun b => ([0] : List Nat).getD b 0
def xP24 : z_M := fun b => ([xB24_0] : List (List z_Op × z_Tm)).getD b z_dead
section
variable {d : Nat} {G : z_G} {l : Launch} {C : z_O}
theorem xb24_0 (hC : z_HC l G d z_tb C) : z_SB "QuotaPeers" prog_1_method_25_code 2 false d G l C ((Option.none : Option Jvm.ClassFile.FieldType)) xp24 0 xB24_0.1 xB24_0.2 := sb_cons (n := 1) hC.1 (tz_ldA _) (so_aload_n 1 (by decide +kernel)) (sb_cons (n := 1) hC.1 (tz_cI _) (so_iconst (3) (3) (by decide +kernel) (by decide +kernel)) (sb_cons (n := 3) hC.1 (tz_pI _ _) (xpN_9_10 w548 (by decide +kernel)) (sb_cons (n := 1) hC.1 (tz_ldA _) (so_aload_n 1 (by decide +kernel)) (sb_cons (n := 1) hC.1 (tz_cI _) (so_iconst (0) (0) (by decide +kernel) (by decide +kernel)) (sb_cons (n := 3) hC.1 (tz_pZ _ _) (xpN_9_11 w549 (by decide +kernel)) (sb_cons (n := 1) hC.1 (tz_ldA _) (so_aload_n 1 (by decide +kernel)) (sb_cons (n := 1) hC.1 (tz_ldA _) (so_aload_n 0 (by decide +kernel)) (sb_cons (n := 3) hC.1 (tz_gI _ _) (xg_0_17 w446 (by decide +kernel)) (sb_cons (n := 2) hC.1 (tz_cI _) (so_bipush (30) (30) (by decide +kernel) (by decide +kernel)) (sb_cons (n := 1) hC.1 (tz_ii _) (so_iadd (by decide +kernel)) (sb_cons (n := 3) hC.1 (tz_pI _ _) (xpN_9_12 w551 (by decide +kernel)) (sb_cons (n := 1) hC.1 (tz_ldA _) (so_aload_n 0 (by decide +kernel)) (sb_cons (n := 1) hC.1 (tz_ldA _) (so_aload_n 1 (by decide +kernel)) (sb_cons (n := 3) hC.1 (tz_cvV _ _ _) (xc_44 hC w629 (by decide +kernel)) (sb_nil (tz_vret) (st_vret rfl (by decide +kernel)))))))))))))))))
theorem xm24 (hC : z_HC l G d z_tb C) : z_SM "QuotaPeers" prog_1_method_25_code 2 false d G l C ((Option.none : Option Jvm.ClassFile.FieldType)) xp24 xP24 := by
  intro b
  match b with
  | 0 => exact xb24_0 hC
  | _ + 1 => exact sb_dead
end
/-! QuotaPeers.shut(LQuotaPeers$Peer;)V -/
def xB25_0 : List z_Op × z_Tm := ([zo_ldA 1, zo_cvS 20 1, zo_ldA 1, zo_cvS 21 1, zo_ldA 0, zo_ldA 1, zo_cI (0), zo_cvV 22 2 0], zt_vret)
def xp25 : Nat → Nat := fun b => ([0] : List Nat).getD b 0
def xP25 : z_M := fun b => ([xB25_0] : List (List z_Op × z_Tm)).getD b z_dead
section
variable {d : Nat} {G : z_G} {l : Launch} {C : z_O}
theorem xb25_0 (hC : z_HC l G d z_tb C) : z_SB "QuotaPeers" prog_1_method_26_code 2 false d G l C ((Option.none : Option Jvm.ClassFile.FieldType)) xp25 0 xB25_0.1 xB25_0.2 := sb_cons (n := 1) hC.1 (tz_ldA _) (so_aload_n 1 (by decide +kernel)) (sb_cons (n := 3) hC.1 (tz_cvS _ _) (xc_20 hC w735 (by decide +kernel)) (sb_cons (n := 1) hC.1 (tz_ldA _) (so_aload_n 1 (by decide +kernel)) (sb_cons (n := 3) hC.1 (tz_cvS _ _) (xc_21 hC w738 (by decide +kernel)) (sb_cons (n := 1) hC.1 (tz_ldA _) (so_aload_n 0 (by decide +kernel)) (sb_cons (n := 1) hC.1 (tz_ldA _) (so_aload_n 1 (by decide +kernel)) (sb_cons (n := 1) hC.1 (tz_cI _) (so_iconst (0) (0) (by decide +kernel) (by decide +kernel)) (sb_cons (n := 3) hC.1 (tz_cvV _ _ _) (xc_22 hC w617 (by decide +kernel)) (sb_nil (tz_vret) (st_vret rfl (by decide +kernel))))))))))
theorem xm25 (hC : z_HC l G d z_tb C) : z_SM "QuotaPeers" prog_1_method_26_code 2 false d G l C ((Option.none : Option Jvm.ClassFile.FieldType)) xp25 xP25 := by
  intro b
  match b with
  | 0 => exact xb25_0 hC
  | _ + 1 => exact sb_dead
end
/-! QuotaPeers.opened(LQuotaPeers$Peer;)V -/
def xB26_0 : List z_Op × z_Tm := ([zo_ldA 0, zo_ldA 1, zo_cvV 19 1 0, zo_ldA 0, zo_ldA 1, zo_cI (5), zo_cvV 22 2 0], zt_vret)
def xp26 : Nat → Nat := fun b => ([0] : List Nat).getD b 0
def xP26 : z_M := fun b => ([xB26_0] : List (List z_Op × z_Tm)).getD b z_dead
section
variable {d : Nat} {G : z_G} {l : Launch} {C : z_O}
theorem xb26_0 (hC : z_HC l G d z_tb C) : z_SB "QuotaPeers" prog_1_method_27_code 2 false d G l C ((Option.none : Option Jvm.ClassFile.FieldType)) xp26 0 xB26_0.1 xB26_0.2 := sb_cons (n := 1) hC.1 (tz_ldA _) (so_aload_n 0 (by decide +kernel)) (sb_cons (n := 1) hC.1 (tz_ldA _) (so_aload_n 1 (by decide +kernel)) (sb_cons (n := 3) hC.1 (tz_cvV _ _ _) (xc_19 hC w745 (by decide +kernel)) (sb_cons (n := 1) hC.1 (tz_ldA _) (so_aload_n 0 (by decide +kernel)) (sb_cons (n := 1) hC.1 (tz_ldA _) (so_aload_n 1 (by decide +kernel)) (sb_cons (n := 1) hC.1 (tz_cI _) (so_iconst (5) (5) (by decide +kernel) (by decide +kernel)) (sb_cons (n := 3) hC.1 (tz_cvV _ _ _) (xc_22 hC w617 (by decide +kernel)) (sb_nil (tz_vret) (st_vret rfl (by decide +kernel)))))))))
theorem xm26 (hC : z_HC l G d z_tb C) : z_SM "QuotaPeers" prog_1_method_27_code 2 false d G l C ((Option.none : Option Jvm.ClassFile.FieldType)) xp26 xP26 := by
  intro b
  match b with
  | 0 => exact xb26_0 hC
  | _ + 1 => exact sb_dead
end
/-! QuotaPeers.choose(LQuotaPeers$Peer;)V -/
def xB27_0 : List z_Op × z_Tm := ([zo_ldA 0, zo_gR 0 1, zo_ldA 1, zo_gR 9 1, zo_crV 245 1 1], zt_if (fun x => x = 0) 2 [true, true] 1 [true, true])
def xB27_1 : List z_Op × z_Tm := ([zo_ldA 1, zo_cvS 20 1, zo_ldA 0, zo_ldA 1, zo_cvV 26 1 0], zt_goto 3 [false, false])
def xB27_2 : List z_Op × z_Tm := ([zo_ldA 0, zo_ldA 1, zo_cI (4), zo_cvV 22 2 0], zt_goto 3 [false, false])
def xB27_3 : List z_Op × z_Tm := ([], zt_vret)
def xp27 : Nat → Nat := fun b => ([0, 14, 26, 32] : List Nat).getD b 0
def xP27 : z_M := fun b => ([xB27_0, xB27_1, xB27_2, xB27_3] : List (List z_Op × z_Tm)).getD b z_dead
section
variable {d : Nat} {G : z_G} {l : Launch} {C : z_O}
theorem xb27_0 (hC : z_HC l G d z_tb C) : z_SB "QuotaPeers" prog_1_method_28_code 2 false d G l C ((Option.none : Option Jvm.ClassFile.FieldType)) xp27 0 xB27_0.1 xB27_0.2 := sb_cons (n := 1) hC.1 (tz_ldA _) (so_aload_n 0 (by decide +kernel)) (sb_cons (n := 3) hC.1 (tz_gR _ _) (xg_0_1 w430 (by decide +kernel)) (sb_cons (n := 1) hC.1 (tz_ldA _) (so_aload_n 1 (by decide +kernel)) (sb_cons (n := 3) hC.1 (tz_gR _ _) (xgN_9_1 w534 (by decide +kernel)) (sb_cons (n := 3) hC.1 (tz_crV _ _ _) (xc_245 hC w775 (by decide +kernel)) (sb_nil (tz_if _ _ _ _ _) (st_if_eq (off := 15) (by decide) (by decide) (by decide +kernel)))))))
theorem xb27_1 (hC : z_HC l G d z_tb C) : z_SB "QuotaPeers" prog_1_method_28_code 2 false d G l C ((Option.none : Option Jvm.ClassFile.FieldType)) xp27 14 xB27_1.1 xB27_1.2 := sb_cons (n := 1) hC.1 (tz_ldA _) (so_aload_n 1 (by decide +kernel)) (sb_cons (n := 3) hC.1 (tz_cvS _ _) (xc_20 hC w735 (by decide +kernel)) (sb_cons (n := 1) hC.1 (tz_ldA _) (so_aload_n 0 (by decide +kernel)) (sb_cons (n := 1) hC.1 (tz_ldA _) (so_aload_n 1 (by decide +kernel)) (sb_cons (n := 3) hC.1 (tz_cvV _ _ _) (xc_26 hC w741 (by decide +kernel)) (sb_nil (tz_goto _ _) (st_goto (off := 9) (by decide) (by decide +kernel)))))))
theorem xb27_2 (hC : z_HC l G d z_tb C) : z_SB "QuotaPeers" prog_1_method_28_code 2 false d G l C ((Option.none : Option Jvm.ClassFile.FieldType)) xp27 26 xB27_2.1 xB27_2.2 := sb_cons (n := 1) hC.1 (tz_ldA _) (so_aload_n 0 (by decide +kernel)) (sb_cons (n := 1) hC.1 (tz_ldA _) (so_aload_n 1 (by decide +kernel)) (sb_cons (n := 1) hC.1 (tz_cI _) (so_iconst (4) (4) (by decide +kernel) (by decide +kernel)) (sb_cons (n := 3) hC.1 (tz_cvV _ _ _) (xc_22 hC w617 (by decide +kernel)) (sb_nil (tz_goto _ _) (st_fall (by decide))))))
theorem xb27_3 (hC : z_HC l G d z_tb C) : z_SB "QuotaPeers" prog_1_method_28_code 2 false d G l C ((Option.none : Option Jvm.ClassFile.FieldType)) xp27 32 xB27_3.1 xB27_3.2 := sb_nil (tz_vret) (st_vret rfl (by decide +kernel))
theorem xm27 (hC : z_HC l G d z_tb C) : z_SM "QuotaPeers" prog_1_method_28_code 2 false d G l C ((Option.none : Option Jvm.ClassFile.FieldType)) xp27 xP27 := by
  intro b
  match b with
  | 0 => exact xb27_0 hC
  | 1 => exact xb27_1 hC
  | 2 => exact xb27_2 hC
  | 3 => exact xb27_3 hC
  | _ + 4 => exact sb_dead
end
/-! QuotaPeers.end(LQuotaPeers$Link;)V -/
def xB28_0 : List z_Op × z_Tm := ([zo_ldA 1, zo_gR 4 2, zo_stA 2, zo_ldA 1, zo_gI 4 3, zo_stI 3, zo_ldA 2], zt_null 1 [false, true, false, false] 2 [true, false, true, true])
def xB28_1 : List z_Op × z_Tm := ([zo_ldA 1, zo_cvV 193 0 4], zt_vret)
def xB28_2 : List z_Op × z_Tm := ([zo_ldI 3], zt_if (fun x => x = 0) 4 [true, false, true, true] 3 [true, false, true, true])
def xB28_3 : List z_Op × z_Tm := ([zo_ldA 2, zo_cvS 20 1], zt_goto 5 [true, false, true, true])
def xB28_4 : List z_Op × z_Tm := ([zo_ldA 2, zo_cvS 21 1], zt_goto 5 [true, false, true, true])
def xB28_5 : List z_Op × z_Tm := ([zo_ldA 2, zo_gI 9 3], zt_sw [(3, 6, [true, false, true, true]), (4, 9, [true, false, true, true])] (12, [true, false, true, false]))
def xB28_6 : List z_Op × z_Tm := ([zo_ldI 3], zt_if (fun x => x = 0) 8 [true, false, true, false] 7 [true, false, true, false])
def xB28_7 : List z_Op × z_Tm := ([zo_ldA 0, zo_ldA 2, zo_cvV 26 1 0], zt_goto 13 [false, false, false, false])
def xB28_8 : List z_Op × z_Tm := ([zo_ldA 0, zo_ldA 2, zo_cI (1), zo_cvV 22 2 0], zt_goto 13 [false, false, false, false])
def xB28_9 : List z_Op × z_Tm := ([zo_ldI 3], zt_if (fun x => x = 0) 11 [true, false, true, false] 10 [true, false, true, false])
def xB28_10 : List z_Op × z_Tm := ([zo_ldA 0, zo_ldA 2, zo_cvV 26 1 0], zt_goto 13 [false, false, false, false])
def xB28_11 : List z_Op × z_Tm := ([zo_ldA 0, zo_ldA 2, zo_cI (2), zo_cvV 22 2 0], zt_goto 13 [false, false, false, false])
def xB28_12 : List z_Op × z_Tm := ([zo_ldA 0, zo_ldA 2, zo_cvV 25 1 0], zt_goto 13 [false, false, false, false])
def xB28_13 : List z_Op × z_Tm := ([], zt_vret)
def xp28 : Nat → Nat := fun b => ([0, 14, 19, 23, 30, 34, 64, 68, 76, 85, 89, 97, 106, 111] : List Nat).getD b 0
def xP28 : z_M := fun b => ([xB28_0, xB28_1, xB28_2, xB28_3, xB28_4, xB28_5, xB28_6, xB28_7, xB28_8, xB28_9, xB28_10, xB28_11, xB28_12, xB28_13] : List (List z_Op × z_Tm)).getD b z_dead
section
variable {d : Nat} {G : z_G} {l : Launch} {C : z_O}
theorem xb28_0 (hC : z_HC l G d z_tb C) : z_SB "QuotaPeers" prog_1_method_29_code 4 false d G l C ((Option.none : Option Jvm.ClassFile.FieldType)) xp28 0 xB28_0.1 xB28_0.2 := sb_cons (n := 1) hC.1 (tz_ldA _) (so_aload_n 1 (by decide +kernel)) (sb_cons (n := 3) hC.1 (tz_gR _ _) (xgN_4_2 w302 (by decide +kernel)) (sb_cons (n := 1) hC.1 (tz_stA _) (so_astore_n 2 (by decide) (by decide +kernel)) (sb_cons (n := 1) hC.1 (tz_ldA _) (so_aload_n 1 (by decide +kernel)) (sb_cons (n := 3) hC.1 (tz_gI _ _) (xgN_4_3 w304 (by decide +kernel)) (sb_cons (n := 1) hC.1 (tz_stI _) (so_istore_n 3 (by decide) (by decide +kernel)) (sb_cons (n := 1) hC.1 (tz_ldA _) (so_aload_n 2 (by decide +kernel)) (sb_nil (tz_nul _ _ _ _) (st_ifnonnull (off := 8) (by decide) (by decide) (by decide +kernel)))))))))
theorem xb28_1 (hC : z_HC l G d z_tb C) : z_SB "QuotaPeers" prog_1_method_29_code 4 false d G l C ((Option.none : Option Jvm.ClassFile.FieldType)) xp28 14 xB28_1.1 xB28_1.2 := sb_cons (n := 1) hC.1 (tz_ldA _) (so_aload_n 1 (by decide +kernel)) (sb_cons (n := 3) hC.1 (tz_cvV _ _ _) (xc_193 hC w731 (by decide +kernel)) (sb_nil (tz_vret) (st_vret rfl (by decide +kernel))))
theorem xb28_2 (hC : z_HC l G d z_tb C) : z_SB "QuotaPeers" prog_1_method_29_code 4 false d G l C ((Option.none : Option Jvm.ClassFile.FieldType)) xp28 19 xB28_2.1 xB28_2.2 := sb_cons (n := 1) hC.1 (tz_ldI _) (so_iload_n 3 (by decide +kernel)) (sb_nil (tz_if _ _ _ _ _) (st_if_eq (off := 10) (by decide) (by decide) (by decide +kernel)))
theorem xb28_3 (hC : z_HC l G d z_tb C) : z_SB "QuotaPeers" prog_1_method_29_code 4 false d G l C ((Option.none : Option Jvm.ClassFile.FieldType)) xp28 23 xB28_3.1 xB28_3.2 := sb_cons (n := 1) hC.1 (tz_ldA _) (so_aload_n 2 (by decide +kernel)) (sb_cons (n := 3) hC.1 (tz_cvS _ _) (xc_20 hC w735 (by decide +kernel)) (sb_nil (tz_goto _ _) (st_goto (off := 7) (by decide) (by decide +kernel))))
theorem xb28_4 (hC : z_HC l G d z_tb C) : z_SB "QuotaPeers" prog_1_method_29_code 4 false d G l C ((Option.none : Option Jvm.ClassFile.FieldType)) xp28 30 xB28_4.1 xB28_4.2 := sb_cons (n := 1) hC.1 (tz_ldA _) (so_aload_n 2 (by decide +kernel)) (sb_cons (n := 3) hC.1 (tz_cvS _ _) (xc_21 hC w738 (by decide +kernel)) (sb_nil (tz_goto _ _) (st_fall (by decide))))
theorem xb28_5 (hC : z_HC l G d z_tb C) : z_SB "QuotaPeers" prog_1_method_29_code 4 false d G l C ((Option.none : Option Jvm.ClassFile.FieldType)) xp28 34 xB28_5.1 xB28_5.2 := sb_cons (n := 1) hC.1 (tz_ldA _) (so_aload_n 2 (by decide +kernel)) (sb_cons (n := 3) hC.1 (tz_gI _ _) (xgN_9_3 w538 (by decide +kernel)) (sb_nil (tz_sw _ _) (st_lookup (dflt := 68) (ps := #[(3, 26), (4, 47)]) (len := 26) (by decide +kernel) (by decide) (by decide +kernel) (by decide +kernel))))
theorem xb28_6 (hC : z_HC l G d z_tb C) : z_SB "QuotaPeers" prog_1_method_29_code 4 false d G l C ((Option.none : Option Jvm.ClassFile.FieldType)) xp28 64 xB28_6.1 xB28_6.2 := sb_cons (n := 1) hC.1 (tz_ldI _) (so_iload_n 3 (by decide +kernel)) (sb_nil (tz_if _ _ _ _ _) (st_if_eq (off := 11) (by decide) (by decide) (by decide +kernel)))
theorem xb28_7 (hC : z_HC l G d z_tb C) : z_SB "QuotaPeers" prog_1_method_29_code 4 false d G l C ((Option.none : Option Jvm.ClassFile.FieldType)) xp28 68 xB28_7.1 xB28_7.2 := sb_cons (n := 1) hC.1 (tz_ldA _) (so_aload_n 0 (by decide +kernel)) (sb_cons (n := 1) hC.1 (tz_ldA _) (so_aload_n 2 (by decide +kernel)) (sb_cons (n := 3) hC.1 (tz_cvV _ _ _) (xc_26 hC w741 (by decide +kernel)) (sb_nil (tz_goto _ _) (st_goto (off := 38) (by decide) (by decide +kernel)))))
theorem xb28_8 (hC : z_HC l G d z_tb C) : z_SB "QuotaPeers" prog_1_method_29_code 4 false d G l C ((Option.none : Option Jvm.ClassFile.FieldType)) xp28 76 xB28_8.1 xB28_8.2 := sb_cons (n := 1) hC.1 (tz_ldA _) (so_aload_n 0 (by decide +kernel)) (sb_cons (n := 1) hC.1 (tz_ldA _) (so_aload_n 2 (by decide +kernel)) (sb_cons (n := 1) hC.1 (tz_cI _) (so_iconst (1) (1) (by decide +kernel) (by decide +kernel)) (sb_cons (n := 3) hC.1 (tz_cvV _ _ _) (xc_22 hC w617 (by decide +kernel)) (sb_nil (tz_goto _ _) (st_goto (off := 29) (by decide) (by decide +kernel))))))
theorem xb28_9 (hC : z_HC l G d z_tb C) : z_SB "QuotaPeers" prog_1_method_29_code 4 false d G l C ((Option.none : Option Jvm.ClassFile.FieldType)) xp28 85 xB28_9.1 xB28_9.2 := sb_cons (n := 1) hC.1 (tz_ldI _) (so_iload_n 3 (by decide +kernel)) (sb_nil (tz_if _ _ _ _ _) (st_if_eq (off := 11) (by decide) (by decide) (by decide +kernel)))
theorem xb28_10 (hC : z_HC l G d z_tb C) : z_SB "QuotaPeers" prog_1_method_29_code 4 false d G l C ((Option.none : Option Jvm.ClassFile.FieldType)) xp28 89 xB28_10.1 xB28_10.2 := sb_cons (n := 1) hC.1 (tz_ldA _) (so_aload_n 0 (by decide +kernel)) (sb_cons (n := 1) hC.1 (tz_ldA _) (so_aload_n 2 (by decide +kernel)) (sb_cons (n := 3) hC.1 (tz_cvV _ _ _) (xc_26 hC w741 (by decide +kernel)) (sb_nil (tz_goto _ _) (st_goto (off := 17) (by decide) (by decide +kernel)))))
theorem xb28_11 (hC : z_HC l G d z_tb C) : z_SB "QuotaPeers" prog_1_method_29_code 4 false d G l C ((Option.none : Option Jvm.ClassFile.FieldType)) xp28 97 xB28_11.1 xB28_11.2 := sb_cons (n := 1) hC.1 (tz_ldA _) (so_aload_n 0 (by decide +kernel)) (sb_cons (n := 1) hC.1 (tz_ldA _) (so_aload_n 2 (by decide +kernel)) (sb_cons (n := 1) hC.1 (tz_cI _) (so_iconst (2) (2) (by decide +kernel) (by decide +kernel)) (sb_cons (n := 3) hC.1 (tz_cvV _ _ _) (xc_22 hC w617 (by decide +kernel)) (sb_nil (tz_goto _ _) (st_goto (off := 8) (by decide) (by decide +kernel))))))
theorem xb28_12 (hC : z_HC l G d z_tb C) : z_SB "QuotaPeers" prog_1_method_29_code 4 false d G l C ((Option.none : Option Jvm.ClassFile.FieldType)) xp28 106 xB28_12.1 xB28_12.2 := sb_cons (n := 1) hC.1 (tz_ldA _) (so_aload_n 0 (by decide +kernel)) (sb_cons (n := 1) hC.1 (tz_ldA _) (so_aload_n 2 (by decide +kernel)) (sb_cons (n := 3) hC.1 (tz_cvV _ _ _) (xc_25 hC w763 (by decide +kernel)) (sb_nil (tz_goto _ _) (st_fall (by decide)))))
theorem xb28_13 (hC : z_HC l G d z_tb C) : z_SB "QuotaPeers" prog_1_method_29_code 4 false d G l C ((Option.none : Option Jvm.ClassFile.FieldType)) xp28 111 xB28_13.1 xB28_13.2 := sb_nil (tz_vret) (st_vret rfl (by decide +kernel))
theorem xm28 (hC : z_HC l G d z_tb C) : z_SM "QuotaPeers" prog_1_method_29_code 4 false d G l C ((Option.none : Option Jvm.ClassFile.FieldType)) xp28 xP28 := by
  intro b
  match b with
  | 0 => exact xb28_0 hC
  | 1 => exact xb28_1 hC
  | 2 => exact xb28_2 hC
  | 3 => exact xb28_3 hC
  | 4 => exact xb28_4 hC
  | 5 => exact xb28_5 hC
  | 6 => exact xb28_6 hC
  | 7 => exact xb28_7 hC
  | 8 => exact xb28_8 hC
  | 9 => exact xb28_9 hC
  | 10 => exact xb28_10 hC
  | 11 => exact xb28_11 hC
  | 12 => exact xb28_12 hC
  | 13 => exact xb28_13 hC
  | _ + 14 => exact sb_dead
end
/-! QuotaPeers.begin(LQuotaPeers$Peer;LQuotaPeers$Link;)V -/
def xB29_0 : List z_Op × z_Tm := ([zo_ldA 2, zo_cI (1), zo_ldA 1, zo_cvV 192 2 4, zo_ldA 1, zo_ldA 2, zo_pR 9 5, zo_ldA 0, zo_ldA 1, zo_cI (1), zo_cvV 22 2 0], zt_vret)
def xp29 : Nat → Nat := fun b => ([0] : List Nat).getD b 0
def xP29 : z_M := fun b => ([xB29_0] : List (List z_Op × z_Tm)).getD b z_dead
section
variable {d : Nat} {G : z_G} {l : Launch} {C : z_O}
theorem xb29_0 (hC : z_HC l G d z_tb C) : z_SB "QuotaPeers" prog_1_method_30_code 3 false d G l C ((Option.none : Option Jvm.ClassFile.FieldType)) xp29 0 xB29_0.1 xB29_0.2 := sb_cons (n := 1) hC.1 (tz_ldA _) (so_aload_n 2 (by decide +kernel)) (sb_cons (n := 1) hC.1 (tz_cI _) (so_iconst (1) (1) (by decide +kernel) (by decide +kernel)) (sb_cons (n := 1) hC.1 (tz_ldA _) (so_aload_n 1 (by decide +kernel)) (sb_cons (n := 3) hC.1 (tz_cvV _ _ _) (xc_192 hC w613 (by decide +kernel)) (sb_cons (n := 1) hC.1 (tz_ldA _) (so_aload_n 1 (by decide +kernel)) (sb_cons (n := 1) hC.1 (tz_ldA _) (so_aload_n 2 (by decide +kernel)) (sb_cons (n := 3) hC.1 (tz_pR _ _) (xpN_9_5 w541 (by decide +kernel)) (sb_cons (n := 1) hC.1 (tz_ldA _) (so_aload_n 0 (by decide +kernel)) (sb_cons (n := 1) hC.1 (tz_ldA _) (so_aload_n 1 (by decide +kernel)) (sb_cons (n := 1) hC.1 (tz_cI _) (so_iconst (1) (1) (by decide +kernel) (by decide +kernel)) (sb_cons (n := 3) hC.1 (tz_cvV _ _ _) (xc_22 hC w617 (by decide +kernel)) (sb_nil (tz_vret) (st_vret rfl (by decide +kernel)))))))))))))
theorem xm29 (hC : z_HC l G d z_tb C) : z_SM "QuotaPeers" prog_1_method_30_code 3 false d G l C ((Option.none : Option Jvm.ClassFile.FieldType)) xp29 xP29 := by
  intro b
  match b with
  | 0 => exact xb29_0 hC
  | _ + 1 => exact sb_dead
end
/-! QuotaPeers.start(I)I -/
def xB30_0 : List z_Op × z_Tm := ([zo_ldA 0, zo_ldI 1, zo_crV 6 1 0, zo_stA 2, zo_ldA 2], zt_null 1 [false, false, false, false] 2 [true, false, true, false])
def xB30_1 : List z_Op × z_Tm := ([zo_cI (-1)], zt_iret)
def xB30_2 : List z_Op × z_Tm := ([zo_ldA 2, zo_gI 9 3], zt_if (fun x => x = 0) 4 [true, false, true, false] 3 [false, false, false, false])
def xB30_3 : List z_Op × z_Tm := ([zo_cI (-3)], zt_iret)
def xB30_4 : List z_Op × z_Tm := ([zo_ldA 0, zo_crV 8 0 0, zo_stA 3, zo_ldA 3], zt_null 5 [false, false, false, false] 6 [true, false, true, true])
def xB30_5 : List z_Op × z_Tm := ([zo_cI (-4)], zt_iret)
def xB30_6 : List z_Op × z_Tm := ([zo_ldA 0, zo_ldA 2, zo_ldA 3, zo_cvV 29 2 0, zo_ldA 3, zo_gI 4 0], zt_iret)
def xp30 : Nat → Nat := fun b => ([0, 10, 12, 19, 22, 31, 34] : List Nat).getD b 0
def xP30 : z_M := fun b => ([xB30_0, xB30_1, xB30_2, xB30_3, xB30_4, xB30_5, xB30_6] : List (List z_Op × z_Tm)).getD b z_dead
section
variable {d : Nat} {G : z_G} {l : Launch} {C : z_O}
theorem xb30_0 (hC : z_HC l G d z_tb C) : z_SB "QuotaPeers" prog_1_method_31_code 4 false d G l C ((Option.some Jvm.ClassFile.FieldType.int)) xp30 0 xB30_0.1 xB30_0.2 := sb_cons (n := 1) hC.1 (tz_ldA _) (so_aload_n 0 (by decide +kernel)) (sb_cons (n := 1) hC.1 (tz_ldI _) (so_iload_n 1 (by decide +kernel)) (sb_cons (n := 3) hC.1 (tz_crV _ _ _) (xc_6 hC w598 (by decide +kernel)) (sb_cons (n := 1) hC.1 (tz_stA _) (so_astore_n 2 (by decide) (by decide +kernel)) (sb_cons (n := 1) hC.1 (tz_ldA _) (so_aload_n 2 (by decide +kernel)) (sb_nil (tz_nul _ _ _ _) (st_ifnonnull (off := 5) (by decide) (by decide) (by decide +kernel)))))))
theorem xb30_1 (hC : z_HC l G d z_tb C) : z_SB "QuotaPeers" prog_1_method_31_code 4 false d G l C ((Option.some Jvm.ClassFile.FieldType.int)) xp30 10 xB30_1.1 xB30_1.2 := sb_cons (n := 1) hC.1 (tz_cI _) (so_iconst (-1) (-1) (by decide +kernel) (by decide +kernel)) (sb_nil (tz_iret) (st_iret rfl (by decide +kernel)))
theorem xb30_2 (hC : z_HC l G d z_tb C) : z_SB "QuotaPeers" prog_1_method_31_code 4 false d G l C ((Option.some Jvm.ClassFile.FieldType.int)) xp30 12 xB30_2.1 xB30_2.2 := sb_cons (n := 1) hC.1 (tz_ldA _) (so_aload_n 2 (by decide +kernel)) (sb_cons (n := 3) hC.1 (tz_gI _ _) (xgN_9_3 w538 (by decide +kernel)) (sb_nil (tz_if _ _ _ _ _) (st_if_eq (off := 6) (by decide) (by decide) (by decide +kernel))))
theorem xb30_3 (hC : z_HC l G d z_tb C) : z_SB "QuotaPeers" prog_1_method_31_code 4 false d G l C ((Option.some Jvm.ClassFile.FieldType.int)) xp30 19 xB30_3.1 xB30_3.2 := sb_cons (n := 2) hC.1 (tz_cI _) (so_bipush (-3) (-3) (by decide +kernel) (by decide +kernel)) (sb_nil (tz_iret) (st_iret rfl (by decide +kernel)))
theorem xb30_4 (hC : z_HC l G d z_tb C) : z_SB "QuotaPeers" prog_1_method_31_code 4 false d G l C ((Option.some Jvm.ClassFile.FieldType.int)) xp30 22 xB30_4.1 xB30_4.2 := sb_cons (n := 1) hC.1 (tz_ldA _) (so_aload_n 0 (by decide +kernel)) (sb_cons (n := 3) hC.1 (tz_crV _ _ _) (xc_8 hC w605 (by decide +kernel)) (sb_cons (n := 1) hC.1 (tz_stA _) (so_astore_n 3 (by decide) (by decide +kernel)) (sb_cons (n := 1) hC.1 (tz_ldA _) (so_aload_n 3 (by decide +kernel)) (sb_nil (tz_nul _ _ _ _) (st_ifnonnull (off := 6) (by decide) (by decide) (by decide +kernel))))))
theorem xb30_5 (hC : z_HC l G d z_tb C) : z_SB "QuotaPeers" prog_1_method_31_code 4 false d G l C ((Option.some Jvm.ClassFile.FieldType.int)) xp30 31 xB30_5.1 xB30_5.2 := sb_cons (n := 2) hC.1 (tz_cI _) (so_bipush (-4) (-4) (by decide +kernel) (by decide +kernel)) (sb_nil (tz_iret) (st_iret rfl (by decide +kernel)))
theorem xb30_6 (hC : z_HC l G d z_tb C) : z_SB "QuotaPeers" prog_1_method_31_code 4 false d G l C ((Option.some Jvm.ClassFile.FieldType.int)) xp30 34 xB30_6.1 xB30_6.2 := sb_cons (n := 1) hC.1 (tz_ldA _) (so_aload_n 0 (by decide +kernel)) (sb_cons (n := 1) hC.1 (tz_ldA _) (so_aload_n 2 (by decide +kernel)) (sb_cons (n := 1) hC.1 (tz_ldA _) (so_aload_n 3 (by decide +kernel)) (sb_cons (n := 3) hC.1 (tz_cvV _ _ _) (xc_29 hC w609 (by decide +kernel)) (sb_cons (n := 1) hC.1 (tz_ldA _) (so_aload_n 3 (by decide +kernel)) (sb_cons (n := 3) hC.1 (tz_gI _ _) (xgN_4_0 w298 (by decide +kernel)) (sb_nil (tz_iret) (st_iret rfl (by decide +kernel))))))))
theorem xm30 (hC : z_HC l G d z_tb C) : z_SM "QuotaPeers" prog_1_method_31_code 4 false d G l C ((Option.some Jvm.ClassFile.FieldType.int)) xp30 xP30 := by
  intro b
  match b with
  | 0 => exact xb30_0 hC
  | 1 => exact xb30_1 hC
  | 2 => exact xb30_2 hC
  | 3 => exact xb30_3 hC
  | 4 => exact xb30_4 hC
  | 5 => exact xb30_5 hC
  | 6 => exact xb30_6 hC
  | _ + 7 => exact sb_dead
end
/-! QuotaPeers.accept()I -/
def xB31_0 : List z_Op × z_Tm := ([zo_ldA 0, zo_crV 8 0 0, zo_stA 1, zo_ldA 1], zt_null 1 [false, false] 2 [false, true])
def xB31_1 : List z_Op × z_Tm := ([zo_cI (-4)], zt_iret)
def xB31_2 : List z_Op × z_Tm := ([zo_ldA 1, zo_cI (2), zo_null, zo_cvV 192 2 4, zo_ldA 1, zo_gI 4 0], zt_iret)
def xp31 : Nat → Nat := fun b => ([0, 9, 12] : List Nat).getD b 0
def xP31 : z_M := fun b => ([xB31_0, xB31_1, xB31_2] : List (List z_Op × z_Tm)).getD b z_dead
section
variable {d : Nat} {G : z_G} {l : Launch} {C : z_O}
theorem xb31_0 (hC : z_HC l G d z_tb C) : z_SB "QuotaPeers" prog_1_method_32_code 2 false d G l C ((Option.some Jvm.ClassFile.FieldType.int)) xp31 0 xB31_0.1 xB31_0.2 := sb_cons (n := 1) hC.1 (tz_ldA _) (so_aload_n 0 (by decide +kernel)) (sb_cons (n := 3) hC.1 (tz_crV _ _ _) (xc_8 hC w605 (by decide +kernel)) (sb_cons (n := 1) hC.1 (tz_stA _) (so_astore_n 1 (by decide) (by decide +kernel)) (sb_cons (n := 1) hC.1 (tz_ldA _) (so_aload_n 1 (by decide +kernel)) (sb_nil (tz_nul _ _ _ _) (st_ifnonnull (off := 6) (by decide) (by decide) (by decide +kernel))))))
theorem xb31_1 (hC : z_HC l G d z_tb C) : z_SB "QuotaPeers" prog_1_method_32_code 2 false d G l C ((Option.some Jvm.ClassFile.FieldType.int)) xp31 9 xB31_1.1 xB31_1.2 := sb_cons (n := 2) hC.1 (tz_cI _) (so_bipush (-4) (-4) (by decide +kernel) (by decide +kernel)) (sb_nil (tz_iret) (st_iret rfl (by decide +kernel)))
theorem xb31_2 (hC : z_HC l G d z_tb C) : z_SB "QuotaPeers" prog_1_method_32_code 2 false d G l C ((Option.some Jvm.ClassFile.FieldType.int)) xp31 12 xB31_2.1 xB31_2.2 := sb_cons (n := 1) hC.1 (tz_ldA _) (so_aload_n 1 (by decide +kernel)) (sb_cons (n := 1) hC.1 (tz_cI _) (so_iconst (2) (2) (by decide +kernel) (by decide +kernel)) (sb_cons (n := 1) hC.1 (tz_null) (so_null (by decide +kernel)) (sb_cons (n := 3) hC.1 (tz_cvV _ _ _) (xc_192 hC w613 (by decide +kernel)) (sb_cons (n := 1) hC.1 (tz_ldA _) (so_aload_n 1 (by decide +kernel)) (sb_cons (n := 3) hC.1 (tz_gI _ _) (xgN_4_0 w298 (by decide +kernel)) (sb_nil (tz_iret) (st_iret rfl (by decide +kernel))))))))
theorem xm31 (hC : z_HC l G d z_tb C) : z_SM "QuotaPeers" prog_1_method_32_code 2 false d G l C ((Option.some Jvm.ClassFile.FieldType.int)) xp31 xP31 := by
  intro b
  match b with
  | 0 => exact xb31_0 hC
  | 1 => exact xb31_1 hC
  | 2 => exact xb31_2 hC
  | _ + 3 => exact sb_dead
end
/-! QuotaPeers.connected(IZ)I -/
def xB32_0 : List z_Op × z_Tm := ([zo_ldA 0, zo_ldI 1, zo_crV 7 1 0, zo_stA 3, zo_ldA 3], zt_null 2 [false, false, false, false, false] 1 [true, false, true, true, false])
def xB32_1 : List z_Op × z_Tm := ([zo_ldA 3, zo_gI 4 1], zt_if (fun x => x = 0) 2 [false, false, false, false, false] 3 [true, false, true, true, false])
def xB32_2 : List z_Op × z_Tm := ([zo_cI (-1)], zt_iret)
def xB32_3 : List z_Op × z_Tm := ([zo_ldA 3, zo_crV 191 0 4], zt_if (fun x => x = 0) 5 [true, false, true, true, false] 4 [false, false, false, false, false])
def xB32_4 : List z_Op × z_Tm := ([zo_cI (-3)], zt_iret)
def xB32_5 : List z_Op × z_Tm := ([zo_ldI 2], zt_if (fun x => x = 0) 6 [true, false, false, true, false] 7 [true, false, false, true, false])
def xB32_6 : List z_Op × z_Tm := ([zo_ldA 0, zo_ldA 3, zo_cvV 28 1 0, zo_cI (1)], zt_iret)
def xB32_7 : List z_Op × z_Tm := ([zo_ldA 3, zo_gR 4 2, zo_stA 4, zo_ldA 3, zo_cI (2), zo_pI 4 1, zo_ldA 0, zo_ldA 4, zo_cvV 13 1 0, zo_ldA 4, zo_gI 9 3, zo_cI (3)], zt_icmp (fun x y => x = y) 8 [true, false, false, false, true] 9 [true, false, false, false, true])
def xB32_8 : List z_Op × z_Tm := ([zo_ldA 0, zo_ldA 4, zo_cvV 27 1 0], zt_goto 10 [false, false, false, false, false])
def xB32_9 : List z_Op × z_Tm := ([zo_ldA 0, zo_ldA 4, zo_cI (2), zo_cvV 22 2 0], zt_goto 10 [false, false, false, false, false])
def xB32_10 : List z_Op × z_Tm := ([zo_cI (1)], zt_iret)
def xp32 : Nat → Nat := fun b => ([0, 10, 17, 19, 26, 29, 33, 40, 66, 75, 82] : List Nat).getD b 0
def xP32 : z_M := fun b => ([xB32_0, xB32_1, xB32_2, xB32_3, xB32_4, xB32_5, xB32_6, xB32_7, xB32_8, xB32_9, xB32_10] : List (List z_Op × z_Tm)).getD b z_dead
section
variable {d : Nat} {G : z_G} {l : Launch} {C : z_O}
theorem xb32_0 (hC : z_HC l G d z_tb C) : z_SB "QuotaPeers" prog_1_method_33_code 5 false d G l C ((Option.some Jvm.ClassFile.FieldType.int)) xp32 0 xB32_0.1 xB32_0.2 := sb_cons (n := 1) hC.1 (tz_ldA _) (so_aload_n 0 (by decide +kernel)) (sb_cons (n := 1) hC.1 (tz_ldI _) (so_iload_n 1 (by decide +kernel)) (sb_cons (n := 3) hC.1 (tz_crV _ _ _) (xc_7 hC w718 (by decide +kernel)) (sb_cons (n := 1) hC.1 (tz_stA _) (so_astore_n 3 (by decide) (by decide +kernel)) (sb_cons (n := 1) hC.1 (tz_ldA _) (so_aload_n 3 (by decide +kernel)) (sb_nil (tz_nul _ _ _ _) (st_ifnull (off := 10) (by decide) (by decide) (by decide +kernel)))))))
theorem xb32_1 (hC : z_HC l G d z_tb C) : z_SB "QuotaPeers" prog_1_method_33_code 5 false d G l C ((Option.some Jvm.ClassFile.FieldType.int)) xp32 10 xB32_1.1 xB32_1.2 := sb_cons (n := 1) hC.1 (tz_ldA _) (so_aload_n 3 (by decide +kernel)) (sb_cons (n := 3) hC.1 (tz_gI _ _) (xgN_4_1 w300 (by decide +kernel)) (sb_nil (tz_if _ _ _ _ _) (st_if_ne (off := 5) (by decide) (by decide) (by decide +kernel))))
theorem xb32_2 (hC : z_HC l G d z_tb C) : z_SB "QuotaPeers" prog_1_method_33_code 5 false d G l C ((Option.some Jvm.ClassFile.FieldType.int)) xp32 17 xB32_2.1 xB32_2.2 := sb_cons (n := 1) hC.1 (tz_cI _) (so_iconst (-1) (-1) (by decide +kernel) (by decide +kernel)) (sb_nil (tz_iret) (st_iret rfl (by decide +kernel)))
theorem xb32_3 (hC : z_HC l G d z_tb C) : z_SB "QuotaPeers" prog_1_method_33_code 5 false d G l C ((Option.some Jvm.ClassFile.FieldType.int)) xp32 19 xB32_3.1 xB32_3.2 := sb_cons (n := 1) hC.1 (tz_ldA _) (so_aload_n 3 (by decide +kernel)) (sb_cons (n := 3) hC.1 (tz_crV _ _ _) (xc_191 hC w723 (by decide +kernel)) (sb_nil (tz_if _ _ _ _ _) (st_if_eq (off := 6) (by decide) (by decide) (by decide +kernel))))
theorem xb32_4 (hC : z_HC l G d z_tb C) : z_SB "QuotaPeers" prog_1_method_33_code 5 false d G l C ((Option.some Jvm.ClassFile.FieldType.int)) xp32 26 xB32_4.1 xB32_4.2 := sb_cons (n := 2) hC.1 (tz_cI _) (so_bipush (-3) (-3) (by decide +kernel) (by decide +kernel)) (sb_nil (tz_iret) (st_iret rfl (by decide +kernel)))
theorem xb32_5 (hC : z_HC l G d z_tb C) : z_SB "QuotaPeers" prog_1_method_33_code 5 false d G l C ((Option.some Jvm.ClassFile.FieldType.int)) xp32 29 xB32_5.1 xB32_5.2 := sb_cons (n := 1) hC.1 (tz_ldI _) (so_iload_n 2 (by decide +kernel)) (sb_nil (tz_if _ _ _ _ _) (st_if_ne (off := 10) (by decide) (by decide) (by decide +kernel)))
theorem xb32_6 (hC : z_HC l G d z_tb C) : z_SB "QuotaPeers" prog_1_method_33_code 5 false d G l C ((Option.some Jvm.ClassFile.FieldType.int)) xp32 33 xB32_6.1 xB32_6.2 := sb_cons (n := 1) hC.1 (tz_ldA _) (so_aload_n 0 (by decide +kernel)) (sb_cons (n := 1) hC.1 (tz_ldA _) (so_aload_n 3 (by decide +kernel)) (sb_cons (n := 3) hC.1 (tz_cvV _ _ _) (xc_28 hC w727 (by decide +kernel)) (sb_cons (n := 1) hC.1 (tz_cI _) (so_iconst (1) (1) (by decide +kernel) (by decide +kernel)) (sb_nil (tz_iret) (st_iret rfl (by decide +kernel))))))
theorem xb32_7 (hC : z_HC l G d z_tb C) : z_SB "QuotaPeers" prog_1_method_33_code 5 false d G l C ((Option.some Jvm.ClassFile.FieldType.int)) xp32 40 xB32_7.1 xB32_7.2 := sb_cons (n := 1) hC.1 (tz_ldA _) (so_aload_n 3 (by decide +kernel)) (sb_cons (n := 3) hC.1 (tz_gR _ _) (xgN_4_2 w302 (by decide +kernel)) (sb_cons (n := 2) hC.1 (tz_stA _) (so_astore 4 (by decide) (by decide +kernel)) (sb_cons (n := 1) hC.1 (tz_ldA _) (so_aload_n 3 (by decide +kernel)) (sb_cons (n := 1) hC.1 (tz_cI _) (so_iconst (2) (2) (by decide +kernel) (by decide +kernel)) (sb_cons (n := 3) hC.1 (tz_pI _ _) (xpN_4_1 w300 (by decide +kernel)) (sb_cons (n := 1) hC.1 (tz_ldA _) (so_aload_n 0 (by decide +kernel)) (sb_cons (n := 2) hC.1 (tz_ldA _) (so_aload 4 (by decide +kernel)) (sb_cons (n := 3) hC.1 (tz_cvV _ _ _) (xc_13 hC w767 (by decide +kernel)) (sb_cons (n := 2) hC.1 (tz_ldA _) (so_aload 4 (by decide +kernel)) (sb_cons (n := 3) hC.1 (tz_gI _ _) (xgN_9_3 w538 (by decide +kernel)) (sb_cons (n := 1) hC.1 (tz_cI _) (so_iconst (3) (3) (by decide +kernel) (by decide +kernel)) (sb_nil (tz_icmp _ _ _ _ _) (st_icmp_ne (off := 12) (by decide) (by decide) (by decide +kernel))))))))))))))
theorem xb32_8 (hC : z_HC l G d z_tb C) : z_SB "QuotaPeers" prog_1_method_33_code 5 false d G l C ((Option.some Jvm.ClassFile.FieldType.int)) xp32 66 xB32_8.1 xB32_8.2 := sb_cons (n := 1) hC.1 (tz_ldA _) (so_aload_n 0 (by decide +kernel)) (sb_cons (n := 2) hC.1 (tz_ldA _) (so_aload 4 (by decide +kernel)) (sb_cons (n := 3) hC.1 (tz_cvV _ _ _) (xc_27 hC w771 (by decide +kernel)) (sb_nil (tz_goto _ _) (st_goto (off := 10) (by decide) (by decide +kernel)))))
theorem xb32_9 (hC : z_HC l G d z_tb C) : z_SB "QuotaPeers" prog_1_method_33_code 5 false d G l C ((Option.some Jvm.ClassFile.FieldType.int)) xp32 75 xB32_9.1 xB32_9.2 := sb_cons (n := 1) hC.1 (tz_ldA _) (so_aload_n 0 (by decide +kernel)) (sb_cons (n := 2) hC.1 (tz_ldA _) (so_aload 4 (by decide +kernel)) (sb_cons (n := 1) hC.1 (tz_cI _) (so_iconst (2) (2) (by decide +kernel) (by decide +kernel)) (sb_cons (n := 3) hC.1 (tz_cvV _ _ _) (xc_22 hC w617 (by decide +kernel)) (sb_nil (tz_goto _ _) (st_fall (by decide))))))
theorem xb32_10 (hC : z_HC l G d z_tb C) : z_SB "QuotaPeers" prog_1_method_33_code 5 false d G l C ((Option.some Jvm.ClassFile.FieldType.int)) xp32 82 xB32_10.1 xB32_10.2 := sb_cons (n := 1) hC.1 (tz_cI _) (so_iconst (1) (1) (by decide +kernel) (by decide +kernel)) (sb_nil (tz_iret) (st_iret rfl (by decide +kernel)))
theorem xm32 (hC : z_HC l G d z_tb C) : z_SM "QuotaPeers" prog_1_method_33_code 5 false d G l C ((Option.some Jvm.ClassFile.FieldType.int)) xp32 xP32 := by
  intro b
  match b with
  | 0 => exact xb32_0 hC
  | 1 => exact xb32_1 hC
  | 2 => exact xb32_2 hC
  | 3 => exact xb32_3 hC
  | 4 => exact xb32_4 hC
  | 5 => exact xb32_5 hC
  | 6 => exact xb32_6 hC
  | 7 => exact xb32_7 hC
  | 8 => exact xb32_8 hC
  | 9 => exact xb32_9 hC
  | 10 => exact xb32_10 hC
  | _ + 11 => exact sb_dead
end
/-! QuotaPeers.gone(I)I -/
def xB33_0 : List z_Op × z_Tm := ([zo_ldA 0, zo_ldI 1, zo_crV 7 1 0, zo_stA 2, zo_ldA 2], zt_null 2 [false, false, false] 1 [true, false, true])
def xB33_1 : List z_Op × z_Tm := ([zo_ldA 2, zo_gI 4 1], zt_if (fun x => x = 0) 2 [false, false, false] 3 [true, false, true])
def xB33_2 : List z_Op × z_Tm := ([zo_cI (-1)], zt_iret)
def xB33_3 : List z_Op × z_Tm := ([zo_ldA 0, zo_ldA 2, zo_cvV 28 1 0, zo_cI (1)], zt_iret)
def xp33 : Nat → Nat := fun b => ([0, 10, 17, 19] : List Nat).getD b 0
def xP33 : z_M := fun b => ([xB33_0, xB33_1, xB33_2, xB33_3] : List (List z_Op × z_Tm)).getD b z_dead
section
variable {d : Nat} {G : z_G} {l : Launch} {C : z_O}
theorem xb33_0 (hC : z_HC l G d z_tb C) : z_SB "QuotaPeers" prog_1_method_34_code 3 false d G l C ((Option.some Jvm.ClassFile.FieldType.int)) xp33 0 xB33_0.1 xB33_0.2 := sb_cons (n := 1) hC.1 (tz_ldA _) (so_aload_n 0 (by decide +kernel)) (sb_cons (n := 1) hC.1 (tz_ldI _) (so_iload_n 1 (by decide +kernel)) (sb_cons (n := 3) hC.1 (tz_crV _ _ _) (xc_7 hC w718 (by decide +kernel)) (sb_cons (n := 1) hC.1 (tz_stA _) (so_astore_n 2 (by decide) (by decide +kernel)) (sb_cons (n := 1) hC.1 (tz_ldA _) (so_aload_n 2 (by decide +kernel)) (sb_nil (tz_nul _ _ _ _) (st_ifnull (off := 10) (by decide) (by decide) (by decide +kernel)))))))
theorem xb33_1 (hC : z_HC l G d z_tb C) : z_SB "QuotaPeers" prog_1_method_34_code 3 false d G l C ((Option.some Jvm.ClassFile.FieldType.int)) xp33 10 xB33_1.1 xB33_1.2 := sb_cons (n := 1) hC.1 (tz_ldA _) (so_aload_n 2 (by decide +kernel)) (sb_cons (n := 3) hC.1 (tz_gI _ _) (xgN_4_1 w300 (by decide +kernel)) (sb_nil (tz_if _ _ _ _ _) (st_if_ne (off := 5) (by decide) (by decide) (by decide +kernel))))
theorem xb33_2 (hC : z_HC l G d z_tb C) : z_SB "QuotaPeers" prog_1_method_34_code 3 false d G l C ((Option.some Jvm.ClassFile.FieldType.int)) xp33 17 xB33_2.1 xB33_2.2 := sb_cons (n := 1) hC.1 (tz_cI _) (so_iconst (-1) (-1) (by decide +kernel) (by decide +kernel)) (sb_nil (tz_iret) (st_iret rfl (by decide +kernel)))
theorem xb33_3 (hC : z_HC l G d z_tb C) : z_SB "QuotaPeers" prog_1_method_34_code 3 false d G l C ((Option.some Jvm.ClassFile.FieldType.int)) xp33 19 xB33_3.1 xB33_3.2 := sb_cons (n := 1) hC.1 (tz_ldA _) (so_aload_n 0 (by decide +kernel)) (sb_cons (n := 1) hC.1 (tz_ldA _) (so_aload_n 2 (by decide +kernel)) (sb_cons (n := 3) hC.1 (tz_cvV _ _ _) (xc_28 hC w727 (by decide +kernel)) (sb_cons (n := 1) hC.1 (tz_cI _) (so_iconst (1) (1) (by decide +kernel) (by decide +kernel)) (sb_nil (tz_iret) (st_iret rfl (by decide +kernel))))))
theorem xm33 (hC : z_HC l G d z_tb C) : z_SM "QuotaPeers" prog_1_method_34_code 3 false d G l C ((Option.some Jvm.ClassFile.FieldType.int)) xp33 xP33 := by
  intro b
  match b with
  | 0 => exact xb33_0 hC
  | 1 => exact xb33_1 hC
  | 2 => exact xb33_2 hC
  | 3 => exact xb33_3 hC
  | _ + 4 => exact sb_dead
end
/-! QuotaPeers.stop(II)I -/
def xB34_0 : List z_Op × z_Tm := ([zo_ldA 0, zo_ldI 1, zo_crV 6 1 0, zo_stA 3, zo_ldA 3], zt_null 1 [false, false, false, false] 2 [true, false, true, true])
def xB34_1 : List z_Op × z_Tm := ([zo_cI (-1)], zt_iret)
def xB34_2 : List z_Op × z_Tm := ([zo_ldI 2, zo_i2l, zo_cJ (0), zo_cJ (2), zo_crS 2 3], zt_if (fun x => x = 0) 3 [false, false, false, false] 4 [true, false, true, true])
def xB34_3 : List z_Op × z_Tm := ([zo_cI (-2)], zt_iret)
def xB34_4 : List z_Op × z_Tm := ([zo_ldA 3, zo_crV 230 0 9], zt_if (fun x => x = 0) 5 [false, false, false, false] 6 [true, false, true, true])
def xB34_5 : List z_Op × z_Tm := ([zo_cI (-3)], zt_iret)
def xB34_6 : List z_Op × z_Tm := ([zo_ldA 0, zo_cI (0), zo_cI (282), zo_cI (0), zo_cI (0), zo_cvV 10 4 0, zo_ldA 3, zo_ldA 0, zo_gI 0 18, zo_pI 9 17, zo_ldA 0, zo_cvV 11 0 0, zo_ldA 0, zo_gR 0 4, zo_cI (273), zo_ldI 2, zo_i2l, zo_cvV 223 2 2, zo_ldA 0, zo_ldA 3, zo_crV 232 0 9, zo_cvV 9 1 0, zo_ldA 0, zo_ldA 3, zo_cI (7), zo_cvV 22 2 0, zo_cI (1)], zt_iret)
def xp34 : Nat → Nat := fun b => ([0, 10, 12, 24, 27, 34, 37] : List Nat).getD b 0
def xP34 : z_M := fun b => ([xB34_0, xB34_1, xB34_2, xB34_3, xB34_4, xB34_5, xB34_6] : List (List z_Op × z_Tm)).getD b z_dead
section
variable {d : Nat} {G : z_G} {l : Launch} {C : z_O}
theorem xb34_0 (hC : z_HC l G d z_tb C) : z_SB "QuotaPeers" prog_1_method_35_code 4 false d G l C ((Option.some Jvm.ClassFile.FieldType.int)) xp34 0 xB34_0.1 xB34_0.2 := sb_cons (n := 1) hC.1 (tz_ldA _) (so_aload_n 0 (by decide +kernel)) (sb_cons (n := 1) hC.1 (tz_ldI _) (so_iload_n 1 (by decide +kernel)) (sb_cons (n := 3) hC.1 (tz_crV _ _ _) (xc_6 hC w598 (by decide +kernel)) (sb_cons (n := 1) hC.1 (tz_stA _) (so_astore_n 3 (by decide) (by decide +kernel)) (sb_cons (n := 1) hC.1 (tz_ldA _) (so_aload_n 3 (by decide +kernel)) (sb_nil (tz_nul _ _ _ _) (st_ifnonnull (off := 5) (by decide) (by decide) (by decide +kernel)))))))
theorem xb34_1 (hC : z_HC l G d z_tb C) : z_SB "QuotaPeers" prog_1_method_35_code 4 false d G l C ((Option.some Jvm.ClassFile.FieldType.int)) xp34 10 xB34_1.1 xB34_1.2 := sb_cons (n := 1) hC.1 (tz_cI _) (so_iconst (-1) (-1) (by decide +kernel) (by decide +kernel)) (sb_nil (tz_iret) (st_iret rfl (by decide +kernel)))
theorem xb34_2 (hC : z_HC l G d z_tb C) : z_SB "QuotaPeers" prog_1_method_35_code 4 false d G l C ((Option.some Jvm.ClassFile.FieldType.int)) xp34 12 xB34_2.1 xB34_2.2 := sb_cons (n := 1) hC.1 (tz_ldI _) (so_iload_n 2 (by decide +kernel)) (sb_cons (n := 1) hC.1 (tz_i2l) (so_i2l (by decide +kernel)) (sb_cons (n := 1) hC.1 (tz_cJ _) (so_lconst 0 (0) (by decide +kernel) (by decide +kernel)) (sb_cons (n := 3) hC.1 (tz_cJ _) (so_ldc2 347 (2) w787 (by decide +kernel)) (sb_cons (n := 3) hC.1 (tz_crS _ _) (xc_2 hC w602 (by decide +kernel)) (sb_nil (tz_if _ _ _ _ _) (st_if_ne (off := 6) (by decide) (by decide) (by decide +kernel)))))))
theorem xb34_3 (hC : z_HC l G d z_tb C) : z_SB "QuotaPeers" prog_1_method_35_code 4 false d G l C ((Option.some Jvm.ClassFile.FieldType.int)) xp34 24 xB34_3.1 xB34_3.2 := sb_cons (n := 2) hC.1 (tz_cI _) (so_bipush (-2) (-2) (by decide +kernel) (by decide +kernel)) (sb_nil (tz_iret) (st_iret rfl (by decide +kernel)))
theorem xb34_4 (hC : z_HC l G d z_tb C) : z_SB "QuotaPeers" prog_1_method_35_code 4 false d G l C ((Option.some Jvm.ClassFile.FieldType.int)) xp34 27 xB34_4.1 xB34_4.2 := sb_cons (n := 1) hC.1 (tz_ldA _) (so_aload_n 3 (by decide +kernel)) (sb_cons (n := 3) hC.1 (tz_crV _ _ _) (xc_230 hC w621 (by decide +kernel)) (sb_nil (tz_if _ _ _ _ _) (st_if_ne (off := 6) (by decide) (by decide) (by decide +kernel))))
theorem xb34_5 (hC : z_HC l G d z_tb C) : z_SB "QuotaPeers" prog_1_method_35_code 4 false d G l C ((Option.some Jvm.ClassFile.FieldType.int)) xp34 34 xB34_5.1 xB34_5.2 := sb_cons (n := 2) hC.1 (tz_cI _) (so_bipush (-3) (-3) (by decide +kernel) (by decide +kernel)) (sb_nil (tz_iret) (st_iret rfl (by decide +kernel)))
theorem xb34_6 (hC : z_HC l G d z_tb C) : z_SB "QuotaPeers" prog_1_method_35_code 4 false d G l C ((Option.some Jvm.ClassFile.FieldType.int)) xp34 37 xB34_6.1 xB34_6.2 := sb_cons (n := 1) hC.1 (tz_ldA _) (so_aload_n 0 (by decide +kernel)) (sb_cons (n := 1) hC.1 (tz_cI _) (so_iconst (0) (0) (by decide +kernel) (by decide +kernel)) (sb_cons (n := 3) hC.1 (tz_cI _) (so_sipush (282) (282) (by decide +kernel) (by decide +kernel)) (sb_cons (n := 1) hC.1 (tz_cI _) (so_iconst (0) (0) (by decide +kernel) (by decide +kernel)) (sb_cons (n := 1) hC.1 (tz_cI _) (so_iconst (0) (0) (by decide +kernel) (by decide +kernel)) (sb_cons (n := 3) hC.1 (tz_cvV _ _ _) (xc_10 hC w646 (by decide +kernel)) (sb_cons (n := 1) hC.1 (tz_ldA _) (so_aload_n 3 (by decide +kernel)) (sb_cons (n := 1) hC.1 (tz_ldA _) (so_aload_n 0 (by decide +kernel)) (sb_cons (n := 3) hC.1 (tz_gI _ _) (xg_0_18 w447 (by decide +kernel)) (sb_cons (n := 3) hC.1 (tz_pI _ _) (xpN_9_17 w556 (by decide +kernel)) (sb_cons (n := 1) hC.1 (tz_ldA _) (so_aload_n 0 (by decide +kernel)) (sb_cons (n := 3) hC.1 (tz_cvV _ _ _) (xc_11 hC w672 (by decide +kernel)) (sb_cons (n := 1) hC.1 (tz_ldA _) (so_aload_n 0 (by decide +kernel)) (sb_cons (n := 3) hC.1 (tz_gR _ _) (xg_0_4 w433 (by decide +kernel)) (sb_cons (n := 3) hC.1 (tz_cI _) (so_sipush (273) (273) (by decide +kernel) (by decide +kernel)) (sb_cons (n := 1) hC.1 (tz_ldI _) (so_iload_n 2 (by decide +kernel)) (sb_cons (n := 1) hC.1 (tz_i2l) (so_i2l (by decide +kernel)) (sb_cons (n := 3) hC.1 (tz_cvV _ _ _) (xc_223 hC w677 (by decide +kernel)) (sb_cons (n := 1) hC.1 (tz_ldA _) (so_aload_n 0 (by decide +kernel)) (sb_cons (n := 1) hC.1 (tz_ldA _) (so_aload_n 3 (by decide +kernel)) (sb_cons (n := 3) hC.1 (tz_crV _ _ _) (xc_232 hC w681 (by decide +kernel)) (sb_cons (n := 3) hC.1 (tz_cvV _ _ _) (xc_9 hC w685 (by decide +kernel)) (sb_cons (n := 1) hC.1 (tz_ldA _) (so_aload_n 0 (by decide +kernel)) (sb_cons (n := 1) hC.1 (tz_ldA _) (so_aload_n 3 (by decide +kernel)) (sb_cons (n := 2) hC.1 (tz_cI _) (so_bipush (7) (7) (by decide +kernel) (by decide +kernel)) (sb_cons (n := 3) hC.1 (tz_cvV _ _ _) (xc_22 hC w617 (by decide +kernel)) (sb_cons (n := 1) hC.1 (tz_cI _) (so_iconst (1) (1) (by decide +kernel) (by decide +kernel)) (sb_nil (tz_iret) (st_iret rfl (by decide +kernel)))))))))))))))))))))))))))))
theorem xm34 (hC : z_HC l G d z_tb C) : z_SM "QuotaPeers" prog_1_method_35_code 4 false d G l C ((Option.some Jvm.ClassFile.FieldType.int)) xp34 xP34 := by
  intro b
  match b with
  | 0 => exact xb34_0 hC
  | 1 => exact xb34_1 hC
  | 2 => exact xb34_2 hC
  | 3 => exact xb34_3 hC
  | 4 => exact xb34_4 hC
  | 5 => exact xb34_5 hC
  | 6 => exact xb34_6 hC
  | _ + 7 => exact sb_dead
end
