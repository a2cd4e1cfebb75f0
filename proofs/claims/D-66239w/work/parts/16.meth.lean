/-! 16.meth.lean.txt (printed by wip/gen/gen13.py): methods 52 .. 80 -/
set_option maxRecDepth 100000
/-! QuotaPeers.keep(LQuotaPeers$Message;)V -/
def xB52_0 : List z_Op × z_Tm := ([zo_ldA 0, zo_gI 0 16, zo_cI (32)], zt_icmp (fun x y => x = y) 1 [true, true, false] 2 [true, true, false])
def xB52_1 : List z_Op × z_Tm := ([zo_ldA 0, zo_cvV 50 0 0], zt_goto 2 [true, true, false])
def xB52_2 : List z_Op × z_Tm := ([zo_ldA 0, zo_gR 0 15, zo_ldA 0, zo_dupR, zo_gI 0 16, zo_dupx1, zo_cI (1), zo_ii ((· + ·)), zo_pI 0 16, zo_aldR, zo_stA 2, zo_ldA 1, zo_cI (264), zo_ldA 2, zo_gR 7 0, zo_cvV 209 2 3, zo_ldA 2, zo_ldA 1, zo_gI 3 7, zo_pI 7 1, zo_ldA 2, zo_ldA 0, zo_gI 0 17, zo_pI 7 2, zo_ldA 0, zo_gR 0 4, zo_cvV 220 0 2, zo_ldA 2, zo_ldA 0, zo_gR 0 4, zo_gI 2 1, zo_pI 7 4, zo_ldA 0, zo_gR 0 4, zo_gR 2 0, zo_cI (0), zo_ldA 2, zo_gR 7 3, zo_cI (0), zo_ldA 2, zo_gI 7 4, zo_copy], zt_vret)
def xp52 : Nat → Nat := fun b => ([0, 9, 13] : List Nat).getD b 0
def xP52 : z_M := fun b => ([xB52_0, xB52_1, xB52_2] : List (List z_Op × z_Tm)).getD b z_dead
section
variable {d : Nat} {G : z_G} {l : Launch} {C : z_O}
theorem xb52_0 (hC : z_HC l G d z_tb C) : z_SB "QuotaPeers" prog_1_method_53_code 3 false d G l C ((Option.none : Option Jvm.ClassFile.FieldType)) xp52 0 xB52_0.1 xB52_0.2 := sb_cons (n := 1) hC.1 (tz_ldA _) (so_aload_n 0 (by decide +kernel)) (sb_cons (n := 3) hC.1 (tz_gI _ _) (xg_0_16 w445 (by decide +kernel)) (sb_cons (n := 2) hC.1 (tz_cI _) (so_bipush (32) (32) (by decide +kernel) (by decide +kernel)) (sb_nil (tz_icmp _ _ _ _ _) (st_icmp_ne (off := 7) (by decide) (by decide) (by decide +kernel)))))
theorem xb52_1 (hC : z_HC l G d z_tb C) : z_SB "QuotaPeers" prog_1_method_53_code 3 false d G l C ((Option.none : Option Jvm.ClassFile.FieldType)) xp52 9 xB52_1.1 xB52_1.2 := sb_cons (n := 1) hC.1 (tz_ldA _) (so_aload_n 0 (by decide +kernel)) (sb_cons (n := 3) hC.1 (tz_cvV _ _ _) (xc_50 hC w933 (by decide +kernel)) (sb_nil (tz_goto _ _) (st_fall (by decide))))
theorem xb52_2 (hC : z_HC l G d z_tb C) : z_SB "QuotaPeers" prog_1_method_53_code 3 false d G l C ((Option.none : Option Jvm.ClassFile.FieldType)) xp52 13 xB52_2.1 xB52_2.2 := sb_cons (n := 1) hC.1 (tz_ldA _) (so_aload_n 0 (by decide +kernel)) (sb_cons (n := 3) hC.1 (tz_gR _ _) (xg_0_15 w444 (by decide +kernel)) (sb_cons (n := 1) hC.1 (tz_ldA _) (so_aload_n 0 (by decide +kernel)) (sb_cons (n := 1) hC.1 (tz_dupR) (so_dupR (by decide +kernel)) (sb_cons (n := 3) hC.1 (tz_gI _ _) (xg_0_16 w445 (by decide +kernel)) (sb_cons (n := 1) hC.1 (tz_dupx1) (so_dupx1 (by decide +kernel)) (sb_cons (n := 1) hC.1 (tz_cI _) (so_iconst (1) (1) (by decide +kernel) (by decide +kernel)) (sb_cons (n := 1) hC.1 (tz_ii _) (so_iadd (by decide +kernel)) (sb_cons (n := 3) hC.1 (tz_pI _ _) (xp_0_16 w445 (by decide +kernel)) (sb_cons (n := 1) hC.1 (tz_aldR) (so_aaload (by decide +kernel)) (sb_cons (n := 1) hC.1 (tz_stA _) (so_astore_n 2 (by decide) (by decide +kernel)) (sb_cons (n := 1) hC.1 (tz_ldA _) (so_aload_n 1 (by decide +kernel)) (sb_cons (n := 3) hC.1 (tz_cI _) (so_sipush (264) (264) (by decide +kernel) (by decide +kernel)) (sb_cons (n := 1) hC.1 (tz_ldA _) (so_aload_n 2 (by decide +kernel)) (sb_cons (n := 3) hC.1 (tz_gR _ _) (xgN_7_0 w412 (by decide +kernel)) (sb_cons (n := 3) hC.1 (tz_cvV _ _ _) (xc_209 hC w977 (by decide +kernel)) (sb_cons (n := 1) hC.1 (tz_ldA _) (so_aload_n 2 (by decide +kernel)) (sb_cons (n := 1) hC.1 (tz_ldA _) (so_aload_n 1 (by decide +kernel)) (sb_cons (n := 3) hC.1 (tz_gI _ _) (xgN_3_7 w220 (by decide +kernel)) (sb_cons (n := 3) hC.1 (tz_pI _ _) (xpN_7_1 w413 (by decide +kernel)) (sb_cons (n := 1) hC.1 (tz_ldA _) (so_aload_n 2 (by decide +kernel)) (sb_cons (n := 1) hC.1 (tz_ldA _) (so_aload_n 0 (by decide +kernel)) (sb_cons (n := 3) hC.1 (tz_gI _ _) (xg_0_17 w446 (by decide +kernel)) (sb_cons (n := 3) hC.1 (tz_pI _ _) (xpN_7_2 w414 (by decide +kernel)) (sb_cons (n := 1) hC.1 (tz_ldA _) (so_aload_n 0 (by decide +kernel)) (sb_cons (n := 3) hC.1 (tz_gR _ _) (xg_0_4 w433 (by decide +kernel)) (sb_cons (n := 3) hC.1 (tz_cvV _ _ _) (xc_220 hC w689 (by decide +kernel)) (sb_cons (n := 1) hC.1 (tz_ldA _) (so_aload_n 2 (by decide +kernel)) (sb_cons (n := 1) hC.1 (tz_ldA _) (so_aload_n 0 (by decide +kernel)) (sb_cons (n := 3) hC.1 (tz_gR _ _) (xg_0_4 w433 (by decide +kernel)) (sb_cons (n := 3) hC.1 (tz_gI _ _) (xgN_2_1 w183 (by decide +kernel)) (sb_cons (n := 3) hC.1 (tz_pI _ _) (xpN_7_4 w417 (by decide +kernel)) (sb_cons (n := 1) hC.1 (tz_ldA _) (so_aload_n 0 (by decide +kernel)) (sb_cons (n := 3) hC.1 (tz_gR _ _) (xg_0_4 w433 (by decide +kernel)) (sb_cons (n := 3) hC.1 (tz_gR _ _) (xgN_2_0 w181 (by decide +kernel)) (sb_cons (n := 1) hC.1 (tz_cI _) (so_iconst (0) (0) (by decide +kernel) (by decide +kernel)) (sb_cons (n := 1) hC.1 (tz_ldA _) (so_aload_n 2 (by decide +kernel)) (sb_cons (n := 3) hC.1 (tz_gR _ _) (xgN_7_3 w416 (by decide +kernel)) (sb_cons (n := 1) hC.1 (tz_cI _) (so_iconst (0) (0) (by decide +kernel) (by decide +kernel)) (sb_cons (n := 1) hC.1 (tz_ldA _) (so_aload_n 2 (by decide +kernel)) (sb_cons (n := 3) hC.1 (tz_gI _ _) (xgN_7_4 w417 (by decide +kernel)) (sb_cons (n := 3) hC.1 (tz_copy) (xa_copy w937 (by decide +kernel)) (sb_nil (tz_vret) (st_vret rfl (by decide +kernel))))))))))))))))))))))))))))))))))))))))))))
theorem xm52 (hC : z_HC l G d z_tb C) : z_SM "QuotaPeers" prog_1_method_53_code 3 false d G l C ((Option.none : Option Jvm.ClassFile.FieldType)) xp52 xP52 := by
  intro b
  match b with
  | 0 => exact xb52_0 hC
  | 1 => exact xb52_1 hC
  | 2 => exact xb52_2 hC
  | _ + 3 => exact sb_dead
end
/-! QuotaPeers.credit(LQuotaPeers$Peer;LQuotaPeers$Link;LQuotaPeers$Message;)V -/
def xB53_0 : List z_Op × z_Tm := ([zo_ldA 0, zo_ldA 3, zo_crV 51 1 0, zo_stA 4, zo_ldA 4], zt_null 2 [true, true, true, true, false, false] 1 [true, false, true, true, true, false])
def xB53_1 : List z_Op × z_Tm := ([zo_ldA 4, zo_gR 7 3, zo_cI (0), zo_ldA 0, zo_gR 0 4, zo_gR 2 0, zo_cI (0), zo_ldA 4, zo_gI 7 4, zo_copy, zo_ldA 0, zo_gR 0 4, zo_ldA 4, zo_gI 7 4, zo_pI 2 1, zo_ldA 0, zo_gR 0 4, zo_cI (12), zo_ldA 3, zo_gI 3 6, zo_i2l, zo_cI (4), zo_cvV 218 3 2, zo_ldA 0, zo_ldA 2, zo_cvV 9 1 0], zt_vret)
def xB53_2 : List z_Op × z_Tm := ([zo_ldA 0, zo_null, zo_pR 0 20, zo_ldA 0, zo_cI (-1), zo_pI 0 21, zo_ldA 0, zo_ldA 1, zo_ldA 3, zo_crV 59 2 0, zo_stI 5, zo_ldA 0, zo_ldA 3, zo_ldI 5, zo_cvV 16 2 0, zo_ldA 0, zo_gR 0 4, zo_cI (258), zo_cJ (4), zo_cvV 223 2 2, zo_ldA 0, zo_gR 0 4, zo_cI (416), zo_ldA 3, zo_cI (416), zo_crV 207 1 3, zo_cvV 223 2 2, zo_ldA 0, zo_gR 0 4, zo_cI (415), zo_ldA 3, zo_cI (415), zo_crV 207 1 3, zo_cvV 223 2 2, zo_ldA 0, zo_gR 0 20], zt_null 4 [true, false, true, true, false, false] 3 [true, false, true, true, false, false])
def xB53_3 : List z_Op × z_Tm := ([zo_ldA 0, zo_gR 0 4, zo_cI (431), zo_ldA 0, zo_gR 0 20, zo_gJ 5 4, zo_cvV 227 2 2, zo_ldA 0, zo_gR 0 4, zo_cI (448), zo_cJ (600), zo_cvV 223 2 2], zt_goto 4 [true, false, true, true, false, false])
def xB53_4 : List z_Op × z_Tm := ([zo_ldA 0, zo_gI 0 21], zt_if (fun x => x < 0) 6 [true, false, true, true, false, false] 5 [true, false, true, true, false, false])
def xB53_5 : List z_Op × z_Tm := ([zo_ldA 0, zo_gR 0 4, zo_cI (422), zo_ldA 0, zo_gI 0 21, zo_i2l, zo_cvV 223 2 2], zt_goto 6 [true, false, true, true, false, false])
def xB53_6 : List z_Op × z_Tm := ([zo_ldA 0, zo_ldA 3, zo_cvV 52 1 0, zo_ldA 0, zo_ldA 2, zo_cvV 9 1 0], zt_vret)
def xp53 : Nat → Nat := fun b => ([0, 12, 67, 146, 176, 183, 198] : List Nat).getD b 0
def xP53 : z_M := fun b => ([xB53_0, xB53_1, xB53_2, xB53_3, xB53_4, xB53_5, xB53_6] : List (List z_Op × z_Tm)).getD b z_dead
section
variable {d : Nat} {G : z_G} {l : Launch} {C : z_O}
theorem xb53_0 (hC : z_HC l G d z_tb C) : z_SB "QuotaPeers" prog_1_method_54_code 6 false d G l C ((Option.none : Option Jvm.ClassFile.FieldType)) xp53 0 xB53_0.1 xB53_0.2 := sb_cons (n := 1) hC.1 (tz_ldA _) (so_aload_n 0 (by decide +kernel)) (sb_cons (n := 1) hC.1 (tz_ldA _) (so_aload_n 3 (by decide +kernel)) (sb_cons (n := 3) hC.1 (tz_crV _ _ _) (xc_51 hC w925 (by decide +kernel)) (sb_cons (n := 2) hC.1 (tz_stA _) (so_astore 4 (by decide) (by decide +kernel)) (sb_cons (n := 2) hC.1 (tz_ldA _) (so_aload 4 (by decide +kernel)) (sb_nil (tz_nul _ _ _ _) (st_ifnull (off := 58) (by decide) (by decide) (by decide +kernel)))))))
theorem xb53_1 (hC : z_HC l G d z_tb C) : z_SB "QuotaPeers" prog_1_method_54_code 6 false d G l C ((Option.none : Option Jvm.ClassFile.FieldType)) xp53 12 xB53_1.1 xB53_1.2 := sb_cons (n := 2) hC.1 (tz_ldA _) (so_aload 4 (by decide +kernel)) (sb_cons (n := 3) hC.1 (tz_gR _ _) (xgN_7_3 w416 (by decide +kernel)) (sb_cons (n := 1) hC.1 (tz_cI _) (so_iconst (0) (0) (by decide +kernel) (by decide +kernel)) (sb_cons (n := 1) hC.1 (tz_ldA _) (so_aload_n 0 (by decide +kernel)) (sb_cons (n := 3) hC.1 (tz_gR _ _) (xg_0_4 w433 (by decide +kernel)) (sb_cons (n := 3) hC.1 (tz_gR _ _) (xgN_2_0 w181 (by decide +kernel)) (sb_cons (n := 1) hC.1 (tz_cI _) (so_iconst (0) (0) (by decide +kernel) (by decide +kernel)) (sb_cons (n := 2) hC.1 (tz_ldA _) (so_aload 4 (by decide +kernel)) (sb_cons (n := 3) hC.1 (tz_gI _ _) (xgN_7_4 w417 (by decide +kernel)) (sb_cons (n := 3) hC.1 (tz_copy) (xa_copy w937 (by decide +kernel)) (sb_cons (n := 1) hC.1 (tz_ldA _) (so_aload_n 0 (by decide +kernel)) (sb_cons (n := 3) hC.1 (tz_gR _ _) (xg_0_4 w433 (by decide +kernel)) (sb_cons (n := 2) hC.1 (tz_ldA _) (so_aload 4 (by decide +kernel)) (sb_cons (n := 3) hC.1 (tz_gI _ _) (xgN_7_4 w417 (by decide +kernel)) (sb_cons (n := 3) hC.1 (tz_pI _ _) (xpN_2_1 w183 (by decide +kernel)) (sb_cons (n := 1) hC.1 (tz_ldA _) (so_aload_n 0 (by decide +kernel)) (sb_cons (n := 3) hC.1 (tz_gR _ _) (xg_0_4 w433 (by decide +kernel)) (sb_cons (n := 2) hC.1 (tz_cI _) (so_bipush (12) (12) (by decide +kernel) (by decide +kernel)) (sb_cons (n := 1) hC.1 (tz_ldA _) (so_aload_n 3 (by decide +kernel)) (sb_cons (n := 3) hC.1 (tz_gI _ _) (xgN_3_6 w218 (by decide +kernel)) (sb_cons (n := 1) hC.1 (tz_i2l) (so_i2l (by decide +kernel)) (sb_cons (n := 1) hC.1 (tz_cI _) (so_iconst (4) (4) (by decide +kernel) (by decide +kernel)) (sb_cons (n := 3) hC.1 (tz_cvV _ _ _) (xcN_218 hC w938 (by decide +kernel)) (sb_cons (n := 1) hC.1 (tz_ldA _) (so_aload_n 0 (by decide +kernel)) (sb_cons (n := 1) hC.1 (tz_ldA _) (so_aload_n 2 (by decide +kernel)) (sb_cons (n := 3) hC.1 (tz_cvV _ _ _) (xc_9 hC w685 (by decide +kernel)) (sb_nil (tz_vret) (st_vret rfl (by decide +kernel))))))))))))))))))))))))))))
theorem xb53_2 (hC : z_HC l G d z_tb C) : z_SB "QuotaPeers" prog_1_method_54_code 6 false d G l C ((Option.none : Option Jvm.ClassFile.FieldType)) xp53 67 xB53_2.1 xB53_2.2 := sb_cons (n := 1) hC.1 (tz_ldA _) (so_aload_n 0 (by decide +kernel)) (sb_cons (n := 1) hC.1 (tz_null) (so_null (by decide +kernel)) (sb_cons (n := 3) hC.1 (tz_pR _ _) (xp_0_20 w449 (by decide +kernel)) (sb_cons (n := 1) hC.1 (tz_ldA _) (so_aload_n 0 (by decide +kernel)) (sb_cons (n := 1) hC.1 (tz_cI _) (so_iconst (-1) (-1) (by decide +kernel) (by decide +kernel)) (sb_cons (n := 3) hC.1 (tz_pI _ _) (xp_0_21 w450 (by decide +kernel)) (sb_cons (n := 1) hC.1 (tz_ldA _) (so_aload_n 0 (by decide +kernel)) (sb_cons (n := 1) hC.1 (tz_ldA _) (so_aload_n 1 (by decide +kernel)) (sb_cons (n := 1) hC.1 (tz_ldA _) (so_aload_n 3 (by decide +kernel)) (sb_cons (n := 3) hC.1 (tz_crV _ _ _) (xc_59 hC w939 (by decide +kernel)) (sb_cons (n := 2) hC.1 (tz_stI _) (so_istore 5 (by decide) (by decide +kernel)) (sb_cons (n := 1) hC.1 (tz_ldA _) (so_aload_n 0 (by decide +kernel)) (sb_cons (n := 1) hC.1 (tz_ldA _) (so_aload_n 3 (by decide +kernel)) (sb_cons (n := 2) hC.1 (tz_ldI _) (so_iload 5 (by decide +kernel)) (sb_cons (n := 3) hC.1 (tz_cvV _ _ _) (xc_16 hC w861 (by decide +kernel)) (sb_cons (n := 1) hC.1 (tz_ldA _) (so_aload_n 0 (by decide +kernel)) (sb_cons (n := 3) hC.1 (tz_gR _ _) (xg_0_4 w433 (by decide +kernel)) (sb_cons (n := 3) hC.1 (tz_cI _) (so_sipush (258) (258) (by decide +kernel) (by decide +kernel)) (sb_cons (n := 3) hC.1 (tz_cJ _) (so_ldc2 159 (4) w676 (by decide +kernel)) (sb_cons (n := 3) hC.1 (tz_cvV _ _ _) (xc_223 hC w677 (by decide +kernel)) (sb_cons (n := 1) hC.1 (tz_ldA _) (so_aload_n 0 (by decide +kernel)) (sb_cons (n := 3) hC.1 (tz_gR _ _) (xg_0_4 w433 (by decide +kernel)) (sb_cons (n := 3) hC.1 (tz_cI _) (so_sipush (416) (416) (by decide +kernel) (by decide +kernel)) (sb_cons (n := 1) hC.1 (tz_ldA _) (so_aload_n 3 (by decide +kernel)) (sb_cons (n := 3) hC.1 (tz_cI _) (so_sipush (416) (416) (by decide +kernel) (by decide +kernel)) (sb_cons (n := 3) hC.1 (tz_crV _ _ _) (xc_207 hC w901 (by decide +kernel)) (sb_cons (n := 3) hC.1 (tz_cvV _ _ _) (xc_223 hC w677 (by decide +kernel)) (sb_cons (n := 1) hC.1 (tz_ldA _) (so_aload_n 0 (by decide +kernel)) (sb_cons (n := 3) hC.1 (tz_gR _ _) (xg_0_4 w433 (by decide +kernel)) (sb_cons (n := 3) hC.1 (tz_cI _) (so_sipush (415) (415) (by decide +kernel) (by decide +kernel)) (sb_cons (n := 1) hC.1 (tz_ldA _) (so_aload_n 3 (by decide +kernel)) (sb_cons (n := 3) hC.1 (tz_cI _) (so_sipush (415) (415) (by decide +kernel) (by decide +kernel)) (sb_cons (n := 3) hC.1 (tz_crV _ _ _) (xc_207 hC w901 (by decide +kernel)) (sb_cons (n := 3) hC.1 (tz_cvV _ _ _) (xc_223 hC w677 (by decide +kernel)) (sb_cons (n := 1) hC.1 (tz_ldA _) (so_aload_n 0 (by decide +kernel)) (sb_cons (n := 3) hC.1 (tz_gR _ _) (xg_0_20 w449 (by decide +kernel)) (sb_nil (tz_nul _ _ _ _) (st_ifnull (off := 33) (by decide) (by decide) (by decide +kernel))))))))))))))))))))))))))))))))))))))
theorem xb53_3 (hC : z_HC l G d z_tb C) : z_SB "QuotaPeers" prog_1_method_54_code 6 false d G l C ((Option.none : Option Jvm.ClassFile.FieldType)) xp53 146 xB53_3.1 xB53_3.2 := sb_cons (n := 1) hC.1 (tz_ldA _) (so_aload_n 0 (by decide +kernel)) (sb_cons (n := 3) hC.1 (tz_gR _ _) (xg_0_4 w433 (by decide +kernel)) (sb_cons (n := 3) hC.1 (tz_cI _) (so_sipush (431) (431) (by decide +kernel) (by decide +kernel)) (sb_cons (n := 1) hC.1 (tz_ldA _) (so_aload_n 0 (by decide +kernel)) (sb_cons (n := 3) hC.1 (tz_gR _ _) (xg_0_20 w449 (by decide +kernel)) (sb_cons (n := 3) hC.1 (tz_gJ _ _) (xgN_5_4 w348 (by decide +kernel)) (sb_cons (n := 3) hC.1 (tz_cvV _ _ _) (xc_227 hC w1031 (by decide +kernel)) (sb_cons (n := 1) hC.1 (tz_ldA _) (so_aload_n 0 (by decide +kernel)) (sb_cons (n := 3) hC.1 (tz_gR _ _) (xg_0_4 w433 (by decide +kernel)) (sb_cons (n := 3) hC.1 (tz_cI _) (so_sipush (448) (448) (by decide +kernel) (by decide +kernel)) (sb_cons (n := 3) hC.1 (tz_cJ _) (so_ldc2 526 (600) w1035 (by decide +kernel)) (sb_cons (n := 3) hC.1 (tz_cvV _ _ _) (xc_223 hC w677 (by decide +kernel)) (sb_nil (tz_goto _ _) (st_fall (by decide))))))))))))))
theorem xb53_4 (hC : z_HC l G d z_tb C) : z_SB "QuotaPeers" prog_1_method_54_code 6 false d G l C ((Option.none : Option Jvm.ClassFile.FieldType)) xp53 176 xB53_4.1 xB53_4.2 := sb_cons (n := 1) hC.1 (tz_ldA _) (so_aload_n 0 (by decide +kernel)) (sb_cons (n := 3) hC.1 (tz_gI _ _) (xg_0_21 w450 (by decide +kernel)) (sb_nil (tz_if _ _ _ _ _) (st_if_lt (off := 18) (by decide) (by decide) (by decide +kernel))))
theorem xb53_5 (hC : z_HC l G d z_tb C) : z_SB "QuotaPeers" prog_1_method_54_code 6 false d G l C ((Option.none : Option Jvm.ClassFile.FieldType)) xp53 183 xB53_5.1 xB53_5.2 := sb_cons (n := 1) hC.1 (tz_ldA _) (so_aload_n 0 (by decide +kernel)) (sb_cons (n := 3) hC.1 (tz_gR _ _) (xg_0_4 w433 (by decide +kernel)) (sb_cons (n := 3) hC.1 (tz_cI _) (so_sipush (422) (422) (by decide +kernel) (by decide +kernel)) (sb_cons (n := 1) hC.1 (tz_ldA _) (so_aload_n 0 (by decide +kernel)) (sb_cons (n := 3) hC.1 (tz_gI _ _) (xg_0_21 w450 (by decide +kernel)) (sb_cons (n := 1) hC.1 (tz_i2l) (so_i2l (by decide +kernel)) (sb_cons (n := 3) hC.1 (tz_cvV _ _ _) (xc_223 hC w677 (by decide +kernel)) (sb_nil (tz_goto _ _) (st_fall (by decide)))))))))
theorem xb53_6 (hC : z_HC l G d z_tb C) : z_SB "QuotaPeers" prog_1_method_54_code 6 false d G l C ((Option.none : Option Jvm.ClassFile.FieldType)) xp53 198 xB53_6.1 xB53_6.2 := sb_cons (n := 1) hC.1 (tz_ldA _) (so_aload_n 0 (by decide +kernel)) (sb_cons (n := 1) hC.1 (tz_ldA _) (so_aload_n 3 (by decide +kernel)) (sb_cons (n := 3) hC.1 (tz_cvV _ _ _) (xc_52 hC w1036 (by decide +kernel)) (sb_cons (n := 1) hC.1 (tz_ldA _) (so_aload_n 0 (by decide +kernel)) (sb_cons (n := 1) hC.1 (tz_ldA _) (so_aload_n 2 (by decide +kernel)) (sb_cons (n := 3) hC.1 (tz_cvV _ _ _) (xc_9 hC w685 (by decide +kernel)) (sb_nil (tz_vret) (st_vret rfl (by decide +kernel))))))))
theorem xm53 (hC : z_HC l G d z_tb C) : z_SM "QuotaPeers" prog_1_method_54_code 6 false d G l C ((Option.none : Option Jvm.ClassFile.FieldType)) xp53 xP53 := by
  intro b
  match b with
  | 0 => exact xb53_0 hC
  | 1 => exact xb53_1 hC
  | 2 => exact xb53_2 hC
  | 3 => exact xb53_3 hC
  | 4 => exact xb53_4 hC
  | 5 => exact xb53_5 hC
  | 6 => exact xb53_6 hC
  | _ + 7 => exact sb_dead
end
/-! QuotaPeers.units(LQuotaPeers$Message;I)J -/
def xB54_0 : List z_Op × z_Tm := ([zo_ldA 0, zo_ldI 1, zo_cI (421), zo_crV 210 2 3, zo_stI 2, zo_ldI 2], zt_if (fun x => 0 ≤ x) 2 [true, false, true] 1 [false, false, false])
def xB54_1 : List z_Op × z_Tm := ([zo_cJ (-1)], zt_goto 3 [false, false, false])
def xB54_2 : List z_Op × z_Tm := ([zo_ldA 0, zo_ldI 2, zo_cI (8), zo_crV 197 2 3], zt_goto 3 [false, false, false])
def xB54_3 : List z_Op × z_Tm := ([], zt_lret)
def xp54 : Nat → Nat := fun b => ([0, 13, 19, 26] : List Nat).getD b 0
def xP54 : z_M := fun b => ([xB54_0, xB54_1, xB54_2, xB54_3] : List (List z_Op × z_Tm)).getD b z_dead
section
variable {d : Nat} {G : z_G} {l : Launch} {C : z_O}
theorem xb54_0 (hC : z_HC l G d z_tb C) : z_SB "QuotaPeers" prog_1_method_55_code 3 false d G l C ((Option.some Jvm.ClassFile.FieldType.long)) xp54 0 xB54_0.1 xB54_0.2 := sb_cons (n := 1) hC.1 (tz_ldA _) (so_aload_n 0 (by decide +kernel)) (sb_cons (n := 1) hC.1 (tz_ldI _) (so_iload_n 1 (by decide +kernel)) (sb_cons (n := 3) hC.1 (tz_cI _) (so_sipush (421) (421) (by decide +kernel) (by decide +kernel)) (sb_cons (n := 3) hC.1 (tz_crV _ _ _) (xc_210 hC w950 (by decide +kernel)) (sb_cons (n := 1) hC.1 (tz_stI _) (so_istore_n 2 (by decide) (by decide +kernel)) (sb_cons (n := 1) hC.1 (tz_ldI _) (so_iload_n 2 (by decide +kernel)) (sb_nil (tz_if _ _ _ _ _) (st_if_ge (off := 9) (by decide) (by decide) (by decide +kernel))))))))
theorem xb54_1 (hC : z_HC l G d z_tb C) : z_SB "QuotaPeers" prog_1_method_55_code 3 false d G l C ((Option.some Jvm.ClassFile.FieldType.long)) xp54 13 xB54_1.1 xB54_1.2 := sb_cons (n := 3) hC.1 (tz_cJ _) (so_ldc2 536 (-1) w995 (by decide +kernel)) (sb_nil (tz_goto _ _) (st_goto (off := 10) (by decide) (by decide +kernel)))
theorem xb54_2 (hC : z_HC l G d z_tb C) : z_SB "QuotaPeers" prog_1_method_55_code 3 false d G l C ((Option.some Jvm.ClassFile.FieldType.long)) xp54 19 xB54_2.1 xB54_2.2 := sb_cons (n := 1) hC.1 (tz_ldA _) (so_aload_n 0 (by decide +kernel)) (sb_cons (n := 1) hC.1 (tz_ldI _) (so_iload_n 2 (by decide +kernel)) (sb_cons (n := 2) hC.1 (tz_cI _) (so_bipush (8) (8) (by decide +kernel) (by decide +kernel)) (sb_cons (n := 3) hC.1 (tz_crV _ _ _) (xcN_197 hC w889 (by decide +kernel)) (sb_nil (tz_goto _ _) (st_fall (by decide))))))
theorem xb54_3 (hC : z_HC l G d z_tb C) : z_SB "QuotaPeers" prog_1_method_55_code 3 false d G l C ((Option.some Jvm.ClassFile.FieldType.long)) xp54 26 xB54_3.1 xB54_3.2 := sb_nil (tz_lret) (st_lret rfl (by decide +kernel))
theorem xm54 (hC : z_HC l G d z_tb C) : z_SM "QuotaPeers" prog_1_method_55_code 3 false d G l C ((Option.some Jvm.ClassFile.FieldType.long)) xp54 xP54 := by
  intro b
  match b with
  | 0 => exact xb54_0 hC
  | 1 => exact xb54_1 hC
  | 2 => exact xb54_2 hC
  | 3 => exact xb54_3 hC
  | _ + 4 => exact sb_dead
end
/-! QuotaPeers.areUnitsRight(LQuotaPeers$Message;I)Z -/
def xB55_0 : List z_Op × z_Tm := ([zo_ldA 0, zo_ldI 1, zo_cI (421), zo_crV 210 2 3, zo_stI 2, zo_ldI 2], zt_if (fun x => x < 0) 2 [false, false, false] 1 [true, false, true])
def xB55_1 : List z_Op × z_Tm := ([zo_ldA 0, zo_ldI 2, zo_cI (8), zo_crV 197 2 3, zo_cJ (0), zo_cJ (1152921504606846976), zo_crS 2 3], zt_if (fun x => x = 0) 3 [false, false, false] 2 [false, false, false])
def xB55_2 : List z_Op × z_Tm := ([zo_cI (1)], zt_goto 4 [false, false, false])
def xB55_3 : List z_Op × z_Tm := ([zo_cI (0)], zt_goto 4 [false, false, false])
def xB55_4 : List z_Op × z_Tm := ([], zt_zret)
def xp55 : Nat → Nat := fun b => ([0, 13, 30, 34, 35] : List Nat).getD b 0
def xP55 : z_M := fun b => ([xB55_0, xB55_1, xB55_2, xB55_3, xB55_4] : List (List z_Op × z_Tm)).getD b z_dead
section
variable {d : Nat} {G : z_G} {l : Launch} {C : z_O}
theorem xb55_0 (hC : z_HC l G d z_tb C) : z_SB "QuotaPeers" prog_1_method_56_code 3 false d G l C ((Option.some Jvm.ClassFile.FieldType.boolean)) xp55 0 xB55_0.1 xB55_0.2 := sb_cons (n := 1) hC.1 (tz_ldA _) (so_aload_n 0 (by decide +kernel)) (sb_cons (n := 1) hC.1 (tz_ldI _) (so_iload_n 1 (by decide +kernel)) (sb_cons (n := 3) hC.1 (tz_cI _) (so_sipush (421) (421) (by decide +kernel) (by decide +kernel)) (sb_cons (n := 3) hC.1 (tz_crV _ _ _) (xc_210 hC w950 (by decide +kernel)) (sb_cons (n := 1) hC.1 (tz_stI _) (so_istore_n 2 (by decide) (by decide +kernel)) (sb_cons (n := 1) hC.1 (tz_ldI _) (so_iload_n 2 (by decide +kernel)) (sb_nil (tz_if _ _ _ _ _) (st_if_lt (off := 20) (by decide) (by decide) (by decide +kernel))))))))
theorem xb55_1 (hC : z_HC l G d z_tb C) : z_SB "QuotaPeers" prog_1_method_56_code 3 false d G l C ((Option.some Jvm.ClassFile.FieldType.boolean)) xp55 13 xB55_1.1 xB55_1.2 := sb_cons (n := 1) hC.1 (tz_ldA _) (so_aload_n 0 (by decide +kernel)) (sb_cons (n := 1) hC.1 (tz_ldI _) (so_iload_n 2 (by decide +kernel)) (sb_cons (n := 2) hC.1 (tz_cI _) (so_bipush (8) (8) (by decide +kernel) (by decide +kernel)) (sb_cons (n := 3) hC.1 (tz_crV _ _ _) (xcN_197 hC w889 (by decide +kernel)) (sb_cons (n := 1) hC.1 (tz_cJ _) (so_lconst 0 (0) (by decide +kernel) (by decide +kernel)) (sb_cons (n := 3) hC.1 (tz_cJ _) (so_ldc2 538 (1152921504606846976) w954 (by decide +kernel)) (sb_cons (n := 3) hC.1 (tz_crS _ _) (xc_2 hC w602 (by decide +kernel)) (sb_nil (tz_if _ _ _ _ _) (st_if_eq (off := 7) (by decide) (by decide) (by decide +kernel)))))))))
theorem xb55_2 (hC : z_HC l G d z_tb C) : z_SB "QuotaPeers" prog_1_method_56_code 3 false d G l C ((Option.some Jvm.ClassFile.FieldType.boolean)) xp55 30 xB55_2.1 xB55_2.2 := sb_cons (n := 1) hC.1 (tz_cI _) (so_iconst (1) (1) (by decide +kernel) (by decide +kernel)) (sb_nil (tz_goto _ _) (st_goto (off := 4) (by decide) (by decide +kernel)))
theorem xb55_3 (hC : z_HC l G d z_tb C) : z_SB "QuotaPeers" prog_1_method_56_code 3 false d G l C ((Option.some Jvm.ClassFile.FieldType.boolean)) xp55 34 xB55_3.1 xB55_3.2 := sb_cons (n := 1) hC.1 (tz_cI _) (so_iconst (0) (0) (by decide +kernel) (by decide +kernel)) (sb_nil (tz_goto _ _) (st_fall (by decide)))
theorem xb55_4 (hC : z_HC l G d z_tb C) : z_SB "QuotaPeers" prog_1_method_56_code 3 false d G l C ((Option.some Jvm.ClassFile.FieldType.boolean)) xp55 35 xB55_4.1 xB55_4.2 := sb_nil (tz_zret) (st_zret rfl (by decide +kernel))
theorem xm55 (hC : z_HC l G d z_tb C) : z_SM "QuotaPeers" prog_1_method_56_code 3 false d G l C ((Option.some Jvm.ClassFile.FieldType.boolean)) xp55 xP55 := by
  intro b
  match b with
  | 0 => exact xb55_0 hC
  | 1 => exact xb55_1 hC
  | 2 => exact xb55_2 hC
  | 3 => exact xb55_3 hC
  | 4 => exact xb55_4 hC
  | _ + 5 => exact sb_dead
end
/-! QuotaPeers.accountAt(J)LQuotaPeers$Account; -/
def xB56_0 : List z_Op × z_Tm := ([zo_cI (0), zo_stI 3], zt_goto 1 [true, true, false, true])
def xB56_1 : List z_Op × z_Tm := ([zo_ldI 3, zo_ldA 0, zo_gI 0 10], zt_icmp (fun x y => y ≤ x) 5 [false, false, false, false] 2 [true, true, false, true])
def xB56_2 : List z_Op × z_Tm := ([zo_ldA 0, zo_gR 0 9, zo_ldI 3, zo_aldR, zo_gJ 10 0, zo_ldJ 1, zo_lcmp], zt_if (fun x => x = 0) 3 [true, false, false, true] 4 [true, true, false, true])
def xB56_3 : List z_Op × z_Tm := ([zo_ldA 0, zo_gR 0 9, zo_ldI 3, zo_aldR], zt_aret)
def xB56_4 : List z_Op × z_Tm := ([zo_inc 3 (1)], zt_goto 1 [true, true, false, true])
def xB56_5 : List z_Op × z_Tm := ([zo_null], zt_aret)
def xp56 : Nat → Nat := fun b => ([0, 2, 10, 24, 31, 37] : List Nat).getD b 0
def xP56 : z_M := fun b => ([xB56_0, xB56_1, xB56_2, xB56_3, xB56_4, xB56_5] : List (List z_Op × z_Tm)).getD b z_dead
section
variable {d : Nat} {G : z_G} {l : Launch} {C : z_O}
theorem xb56_0 (hC : z_HC l G d z_tb C) : z_SB "QuotaPeers" prog_1_method_57_code 4 false d G l C ((Option.some (Jvm.ClassFile.FieldType.object "QuotaPeers$Account"))) xp56 0 xB56_0.1 xB56_0.2 := sb_cons (n := 1) hC.1 (tz_cI _) (so_iconst (0) (0) (by decide +kernel) (by decide +kernel)) (sb_cons (n := 1) hC.1 (tz_stI _) (so_istore_n 3 (by decide) (by decide +kernel)) (sb_nil (tz_goto _ _) (st_fall (by decide))))
theorem xb56_1 (hC : z_HC l G d z_tb C) : z_SB "QuotaPeers" prog_1_method_57_code 4 false d G l C ((Option.some (Jvm.ClassFile.FieldType.object "QuotaPeers$Account"))) xp56 2 xB56_1.1 xB56_1.2 := sb_cons (n := 1) hC.1 (tz_ldI _) (so_iload_n 3 (by decide +kernel)) (sb_cons (n := 1) hC.1 (tz_ldA _) (so_aload_n 0 (by decide +kernel)) (sb_cons (n := 3) hC.1 (tz_gI _ _) (xg_0_10 w439 (by decide +kernel)) (sb_nil (tz_icmp _ _ _ _ _) (st_icmp_ge (off := 30) (by decide) (by decide) (by decide +kernel)))))
theorem xb56_2 (hC : z_HC l G d z_tb C) : z_SB "QuotaPeers" prog_1_method_57_code 4 false d G l C ((Option.some (Jvm.ClassFile.FieldType.object "QuotaPeers$Account"))) xp56 10 xB56_2.1 xB56_2.2 := sb_cons (n := 1) hC.1 (tz_ldA _) (so_aload_n 0 (by decide +kernel)) (sb_cons (n := 3) hC.1 (tz_gR _ _) (xg_0_9 w438 (by decide +kernel)) (sb_cons (n := 1) hC.1 (tz_ldI _) (so_iload_n 3 (by decide +kernel)) (sb_cons (n := 1) hC.1 (tz_aldR) (so_aaload (by decide +kernel)) (sb_cons (n := 3) hC.1 (tz_gJ _ _) (xgN_10_0 w1099 (by decide +kernel)) (sb_cons (n := 1) hC.1 (tz_ldJ _) (so_lload_n 1 (by decide +kernel)) (sb_cons (n := 1) hC.1 (tz_lcmp) (so_lcmp (by decide +kernel)) (sb_nil (tz_if _ _ _ _ _) (st_if_ne (off := 10) (by decide) (by decide) (by decide +kernel)))))))))
theorem xb56_3 (hC : z_HC l G d z_tb C) : z_SB "QuotaPeers" prog_1_method_57_code 4 false d G l C ((Option.some (Jvm.ClassFile.FieldType.object "QuotaPeers$Account"))) xp56 24 xB56_3.1 xB56_3.2 := sb_cons (n := 1) hC.1 (tz_ldA _) (so_aload_n 0 (by decide +kernel)) (sb_cons (n := 3) hC.1 (tz_gR _ _) (xg_0_9 w438 (by decide +kernel)) (sb_cons (n := 1) hC.1 (tz_ldI _) (so_iload_n 3 (by decide +kernel)) (sb_cons (n := 1) hC.1 (tz_aldR) (so_aaload (by decide +kernel)) (sb_nil (tz_aret) (st_aret rfl (by decide +kernel))))))
theorem xb56_4 (hC : z_HC l G d z_tb C) : z_SB "QuotaPeers" prog_1_method_57_code 4 false d G l C ((Option.some (Jvm.ClassFile.FieldType.object "QuotaPeers$Account"))) xp56 31 xB56_4.1 xB56_4.2 := sb_cons (n := 3) hC.1 (tz_inc _ _) (so_iinc 3 (1) (1) (by decide +kernel) (by decide) (by decide +kernel)) (sb_nil (tz_goto _ _) (st_goto (off := -32) (by decide) (by decide +kernel)))
theorem xb56_5 (hC : z_HC l G d z_tb C) : z_SB "QuotaPeers" prog_1_method_57_code 4 false d G l C ((Option.some (Jvm.ClassFile.FieldType.object "QuotaPeers$Account"))) xp56 37 xB56_5.1 xB56_5.2 := sb_cons (n := 1) hC.1 (tz_null) (so_null (by decide +kernel)) (sb_nil (tz_aret) (st_aret rfl (by decide +kernel)))
theorem xm56 (hC : z_HC l G d z_tb C) : z_SM "QuotaPeers" prog_1_method_57_code 4 false d G l C ((Option.some (Jvm.ClassFile.FieldType.object "QuotaPeers$Account"))) xp56 xP56 := by
  intro b
  match b with
  | 0 => exact xb56_0 hC
  | 1 => exact xb56_1 hC
  | 2 => exact xb56_2 hC
  | 3 => exact xb56_3 hC
  | 4 => exact xb56_4 hC
  | 5 => exact xb56_5 hC
  | _ + 6 => exact sb_dead
end
/-! QuotaPeers.accountOf(LQuotaPeers$Message;)LQuotaPeers$Account; -/
def xB57_0 : List z_Op × z_Tm := ([zo_ldA 1, zo_cI (443), zo_cI (444), zo_crV 210 2 3, zo_stI 2, zo_ldI 2], zt_if (fun x => x < 0) 2 [false, false, false, false, false, false, false] 1 [true, true, true, false, false, false, false])
def xB57_1 : List z_Op × z_Tm := ([zo_ldA 1, zo_gI 3 14, zo_cI (17)], zt_icmp (fun x y => x ≤ y) 3 [true, true, true, false, false, false, false] 2 [false, false, false, false, false, false, false])
def xB57_2 : List z_Op × z_Tm := ([zo_null], zt_aret)
def xB57_3 : List z_Op × z_Tm := ([zo_cJ (0), zo_stJ 3, zo_cI (0), zo_stI 5], zt_goto 4 [true, true, true, true, false, true, false])
def xB57_4 : List z_Op × z_Tm := ([zo_ldI 5, zo_ldA 1, zo_gI 3 14], zt_icmp (fun x y => y ≤ x) 9 [true, false, false, true, false, false, false] 5 [true, true, true, true, false, true, false])
def xB57_5 : List z_Op × z_Tm := ([zo_ldA 1, zo_gR 3 1, zo_ldI 2, zo_ldI 5, zo_ii ((· + ·)), zo_aldI 17, zo_stI 6, zo_ldI 6, zo_cI (48)], zt_icmp (fun x y => x < y) 7 [false, false, false, false, false, false, false] 6 [true, true, true, true, false, true, true])
def xB57_6 : List z_Op × z_Tm := ([zo_ldI 6, zo_cI (57)], zt_icmp (fun x y => x ≤ y) 8 [true, true, true, true, false, true, true] 7 [false, false, false, false, false, false, false])
def xB57_7 : List z_Op × z_Tm := ([zo_null], zt_aret)
def xB57_8 : List z_Op × z_Tm := ([zo_cJ (10), zo_ldJ 3, zo_jj (· * ·), zo_ldI 6, zo_i2l, zo_jj (· + ·), zo_cJ (48), zo_jj (· - ·), zo_stJ 3, zo_inc 5 (1)], zt_goto 4 [true, true, true, true, false, true, false])
def xB57_9 : List z_Op × z_Tm := ([zo_ldA 0, zo_ldJ 3, zo_crV 56 1 0], zt_aret)
def xp57 : Nat → Nat := fun b => ([0, 15, 24, 26, 31, 40, 58, 65, 67, 87] : List Nat).getD b 0
def xP57 : z_M := fun b => ([xB57_0, xB57_1, xB57_2, xB57_3, xB57_4, xB57_5, xB57_6, xB57_7, xB57_8, xB57_9] : List (List z_Op × z_Tm)).getD b z_dead
section
variable {d : Nat} {G : z_G} {l : Launch} {C : z_O}
theorem xb57_0 (hC : z_HC l G d z_tb C) : z_SB "QuotaPeers" prog_1_method_58_code 7 false d G l C ((Option.some (Jvm.ClassFile.FieldType.object "QuotaPeers$Account"))) xp57 0 xB57_0.1 xB57_0.2 := sb_cons (n := 1) hC.1 (tz_ldA _) (so_aload_n 1 (by decide +kernel)) (sb_cons (n := 3) hC.1 (tz_cI _) (so_sipush (443) (443) (by decide +kernel) (by decide +kernel)) (sb_cons (n := 3) hC.1 (tz_cI _) (so_sipush (444) (444) (by decide +kernel) (by decide +kernel)) (sb_cons (n := 3) hC.1 (tz_crV _ _ _) (xc_210 hC w950 (by decide +kernel)) (sb_cons (n := 1) hC.1 (tz_stI _) (so_istore_n 2 (by decide) (by decide +kernel)) (sb_cons (n := 1) hC.1 (tz_ldI _) (so_iload_n 2 (by decide +kernel)) (sb_nil (tz_if _ _ _ _ _) (st_if_lt (off := 12) (by decide) (by decide) (by decide +kernel))))))))
theorem xb57_1 (hC : z_HC l G d z_tb C) : z_SB "QuotaPeers" prog_1_method_58_code 7 false d G l C ((Option.some (Jvm.ClassFile.FieldType.object "QuotaPeers$Account"))) xp57 15 xB57_1.1 xB57_1.2 := sb_cons (n := 1) hC.1 (tz_ldA _) (so_aload_n 1 (by decide +kernel)) (sb_cons (n := 3) hC.1 (tz_gI _ _) (xgN_3_14 w235 (by decide +kernel)) (sb_cons (n := 2) hC.1 (tz_cI _) (so_bipush (17) (17) (by decide +kernel) (by decide +kernel)) (sb_nil (tz_icmp _ _ _ _ _) (st_icmp_le (off := 5) (by decide) (by decide) (by decide +kernel)))))
theorem xb57_2 (hC : z_HC l G d z_tb C) : z_SB "QuotaPeers" prog_1_method_58_code 7 false d G l C ((Option.some (Jvm.ClassFile.FieldType.object "QuotaPeers$Account"))) xp57 24 xB57_2.1 xB57_2.2 := sb_cons (n := 1) hC.1 (tz_null) (so_null (by decide +kernel)) (sb_nil (tz_aret) (st_aret rfl (by decide +kernel)))
theorem xb57_3 (hC : z_HC l G d z_tb C) : z_SB "QuotaPeers" prog_1_method_58_code 7 false d G l C ((Option.some (Jvm.ClassFile.FieldType.object "QuotaPeers$Account"))) xp57 26 xB57_3.1 xB57_3.2 := sb_cons (n := 1) hC.1 (tz_cJ _) (so_lconst 0 (0) (by decide +kernel) (by decide +kernel)) (sb_cons (n := 1) hC.1 (tz_stJ _) (so_lstore_n 3 (by decide) (by decide +kernel)) (sb_cons (n := 1) hC.1 (tz_cI _) (so_iconst (0) (0) (by decide +kernel) (by decide +kernel)) (sb_cons (n := 2) hC.1 (tz_stI _) (so_istore 5 (by decide) (by decide +kernel)) (sb_nil (tz_goto _ _) (st_fall (by decide))))))
theorem xb57_4 (hC : z_HC l G d z_tb C) : z_SB "QuotaPeers" prog_1_method_58_code 7 false d G l C ((Option.some (Jvm.ClassFile.FieldType.object "QuotaPeers$Account"))) xp57 31 xB57_4.1 xB57_4.2 := sb_cons (n := 2) hC.1 (tz_ldI _) (so_iload 5 (by decide +kernel)) (sb_cons (n := 1) hC.1 (tz_ldA _) (so_aload_n 1 (by decide +kernel)) (sb_cons (n := 3) hC.1 (tz_gI _ _) (xgN_3_14 w235 (by decide +kernel)) (sb_nil (tz_icmp _ _ _ _ _) (st_icmp_ge (off := 50) (by decide) (by decide) (by decide +kernel)))))
theorem xb57_5 (hC : z_HC l G d z_tb C) : z_SB "QuotaPeers" prog_1_method_58_code 7 false d G l C ((Option.some (Jvm.ClassFile.FieldType.object "QuotaPeers$Account"))) xp57 40 xB57_5.1 xB57_5.2 := sb_cons (n := 1) hC.1 (tz_ldA _) (so_aload_n 1 (by decide +kernel)) (sb_cons (n := 3) hC.1 (tz_gR _ _) (xgN_3_1 w210 (by decide +kernel)) (sb_cons (n := 1) hC.1 (tz_ldI _) (so_iload_n 2 (by decide +kernel)) (sb_cons (n := 2) hC.1 (tz_ldI _) (so_iload 5 (by decide +kernel)) (sb_cons (n := 1) hC.1 (tz_ii _) (so_iadd (by decide +kernel)) (sb_cons (n := 1) hC.1 (tz_aldI _) (so_baload (by decide +kernel)) (sb_cons (n := 2) hC.1 (tz_stI _) (so_istore 6 (by decide) (by decide +kernel)) (sb_cons (n := 2) hC.1 (tz_ldI _) (so_iload 6 (by decide +kernel)) (sb_cons (n := 2) hC.1 (tz_cI _) (so_bipush (48) (48) (by decide +kernel) (by decide +kernel)) (sb_nil (tz_icmp _ _ _ _ _) (st_icmp_lt (off := 10) (by decide) (by decide) (by decide +kernel)))))))))))
theorem xb57_6 (hC : z_HC l G d z_tb C) : z_SB "QuotaPeers" prog_1_method_58_code 7 false d G l C ((Option.some (Jvm.ClassFile.FieldType.object "QuotaPeers$Account"))) xp57 58 xB57_6.1 xB57_6.2 := sb_cons (n := 2) hC.1 (tz_ldI _) (so_iload 6 (by decide +kernel)) (sb_cons (n := 2) hC.1 (tz_cI _) (so_bipush (57) (57) (by decide +kernel) (by decide +kernel)) (sb_nil (tz_icmp _ _ _ _ _) (st_icmp_le (off := 5) (by decide) (by decide) (by decide +kernel))))
theorem xb57_7 (hC : z_HC l G d z_tb C) : z_SB "QuotaPeers" prog_1_method_58_code 7 false d G l C ((Option.some (Jvm.ClassFile.FieldType.object "QuotaPeers$Account"))) xp57 65 xB57_7.1 xB57_7.2 := sb_cons (n := 1) hC.1 (tz_null) (so_null (by decide +kernel)) (sb_nil (tz_aret) (st_aret rfl (by decide +kernel)))
theorem xb57_8 (hC : z_HC l G d z_tb C) : z_SB "QuotaPeers" prog_1_method_58_code 7 false d G l C ((Option.some (Jvm.ClassFile.FieldType.object "QuotaPeers$Account"))) xp57 67 xB57_8.1 xB57_8.2 := sb_cons (n := 3) hC.1 (tz_cJ _) (so_ldc2 548 (10) w963 (by decide +kernel)) (sb_cons (n := 1) hC.1 (tz_ldJ _) (so_lload_n 3 (by decide +kernel)) (sb_cons (n := 1) hC.1 (tz_jj _) (so_lmul (by decide +kernel)) (sb_cons (n := 2) hC.1 (tz_ldI _) (so_iload 6 (by decide +kernel)) (sb_cons (n := 1) hC.1 (tz_i2l) (so_i2l (by decide +kernel)) (sb_cons (n := 1) hC.1 (tz_jj _) (so_ladd (by decide +kernel)) (sb_cons (n := 3) hC.1 (tz_cJ _) (so_ldc2 550 (48) w964 (by decide +kernel)) (sb_cons (n := 1) hC.1 (tz_jj _) (so_lsub (by decide +kernel)) (sb_cons (n := 1) hC.1 (tz_stJ _) (so_lstore_n 3 (by decide) (by decide +kernel)) (sb_cons (n := 3) hC.1 (tz_inc _ _) (so_iinc 5 (1) (1) (by decide +kernel) (by decide) (by decide +kernel)) (sb_nil (tz_goto _ _) (st_goto (off := -53) (by decide) (by decide +kernel))))))))))))
theorem xb57_9 (hC : z_HC l G d z_tb C) : z_SB "QuotaPeers" prog_1_method_58_code 7 false d G l C ((Option.some (Jvm.ClassFile.FieldType.object "QuotaPeers$Account"))) xp57 87 xB57_9.1 xB57_9.2 := sb_cons (n := 1) hC.1 (tz_ldA _) (so_aload_n 0 (by decide +kernel)) (sb_cons (n := 1) hC.1 (tz_ldJ _) (so_lload_n 3 (by decide +kernel)) (sb_cons (n := 3) hC.1 (tz_crV _ _ _) (xc_56 hC w965 (by decide +kernel)) (sb_nil (tz_aret) (st_aret rfl (by decide +kernel)))))
theorem xm57 (hC : z_HC l G d z_tb C) : z_SM "QuotaPeers" prog_1_method_58_code 7 false d G l C ((Option.some (Jvm.ClassFile.FieldType.object "QuotaPeers$Account"))) xp57 xP57 := by
  intro b
  match b with
  | 0 => exact xb57_0 hC
  | 1 => exact xb57_1 hC
  | 2 => exact xb57_2 hC
  | 3 => exact xb57_3 hC
  | 4 => exact xb57_4 hC
  | 5 => exact xb57_5 hC
  | 6 => exact xb57_6 hC
  | 7 => exact xb57_7 hC
  | 8 => exact xb57_8 hC
  | 9 => exact xb57_9 hC
  | _ + 10 => exact sb_dead
end
/-! QuotaPeers.sessionOf(LQuotaPeers$Message;)LQuotaPeers$Session; -/
def xB58_0 : List z_Op × z_Tm := ([zo_cI (0), zo_stI 2], zt_goto 1 [true, true, true])
def xB58_1 : List z_Op × z_Tm := ([zo_ldI 2, zo_ldA 0, zo_gI 0 12], zt_icmp (fun x y => y ≤ x) 5 [false, false, false] 2 [true, true, true])
def xB58_2 : List z_Op × z_Tm := ([zo_ldA 1, zo_cI (263), zo_ldA 0, zo_gR 0 11, zo_ldI 2, zo_aldR, zo_gR 5 0, zo_crV 208 2 3], zt_if (fun x => x = 0) 4 [true, true, true] 3 [true, false, true])
def xB58_3 : List z_Op × z_Tm := ([zo_ldA 0, zo_gR 0 11, zo_ldI 2, zo_aldR], zt_aret)
def xB58_4 : List z_Op × z_Tm := ([zo_inc 2 (1)], zt_goto 1 [true, true, true])
def xB58_5 : List z_Op × z_Tm := ([zo_null], zt_aret)
def xp58 : Nat → Nat := fun b => ([0, 2, 10, 29, 36, 42] : List Nat).getD b 0
def xP58 : z_M := fun b => ([xB58_0, xB58_1, xB58_2, xB58_3, xB58_4, xB58_5] : List (List z_Op × z_Tm)).getD b z_dead
section
variable {d : Nat} {G : z_G} {l : Launch} {C : z_O}
theorem xb58_0 (hC : z_HC l G d z_tb C) : z_SB "QuotaPeers" prog_1_method_59_code 3 false d G l C ((Option.some (Jvm.ClassFile.FieldType.object "QuotaPeers$Session"))) xp58 0 xB58_0.1 xB58_0.2 := sb_cons (n := 1) hC.1 (tz_cI _) (so_iconst (0) (0) (by decide +kernel) (by decide +kernel)) (sb_cons (n := 1) hC.1 (tz_stI _) (so_istore_n 2 (by decide) (by decide +kernel)) (sb_nil (tz_goto _ _) (st_fall (by decide))))
theorem xb58_1 (hC : z_HC l G d z_tb C) : z_SB "QuotaPeers" prog_1_method_59_code 3 false d G l C ((Option.some (Jvm.ClassFile.FieldType.object "QuotaPeers$Session"))) xp58 2 xB58_1.1 xB58_1.2 := sb_cons (n := 1) hC.1 (tz_ldI _) (so_iload_n 2 (by decide +kernel)) (sb_cons (n := 1) hC.1 (tz_ldA _) (so_aload_n 0 (by decide +kernel)) (sb_cons (n := 3) hC.1 (tz_gI _ _) (xg_0_12 w441 (by decide +kernel)) (sb_nil (tz_icmp _ _ _ _ _) (st_icmp_ge (off := 35) (by decide) (by decide) (by decide +kernel)))))
theorem xb58_2 (hC : z_HC l G d z_tb C) : z_SB "QuotaPeers" prog_1_method_59_code 3 false d G l C ((Option.some (Jvm.ClassFile.FieldType.object "QuotaPeers$Session"))) xp58 10 xB58_2.1 xB58_2.2 := sb_cons (n := 1) hC.1 (tz_ldA _) (so_aload_n 1 (by decide +kernel)) (sb_cons (n := 3) hC.1 (tz_cI _) (so_sipush (263) (263) (by decide +kernel) (by decide +kernel)) (sb_cons (n := 1) hC.1 (tz_ldA _) (so_aload_n 0 (by decide +kernel)) (sb_cons (n := 3) hC.1 (tz_gR _ _) (xg_0_11 w440 (by decide +kernel)) (sb_cons (n := 1) hC.1 (tz_ldI _) (so_iload_n 2 (by decide +kernel)) (sb_cons (n := 1) hC.1 (tz_aldR) (so_aaload (by decide +kernel)) (sb_cons (n := 3) hC.1 (tz_gR _ _) (xgN_5_0 w340 (by decide +kernel)) (sb_cons (n := 3) hC.1 (tz_crV _ _ _) (xc_208 hC w878 (by decide +kernel)) (sb_nil (tz_if _ _ _ _ _) (st_if_eq (off := 10) (by decide) (by decide) (by decide +kernel))))))))))
theorem xb58_3 (hC : z_HC l G d z_tb C) : z_SB "QuotaPeers" prog_1_method_59_code 3 false d G l C ((Option.some (Jvm.ClassFile.FieldType.object "QuotaPeers$Session"))) xp58 29 xB58_3.1 xB58_3.2 := sb_cons (n := 1) hC.1 (tz_ldA _) (so_aload_n 0 (by decide +kernel)) (sb_cons (n := 3) hC.1 (tz_gR _ _) (xg_0_11 w440 (by decide +kernel)) (sb_cons (n := 1) hC.1 (tz_ldI _) (so_iload_n 2 (by decide +kernel)) (sb_cons (n := 1) hC.1 (tz_aldR) (so_aaload (by decide +kernel)) (sb_nil (tz_aret) (st_aret rfl (by decide +kernel))))))
theorem xb58_4 (hC : z_HC l G d z_tb C) : z_SB "QuotaPeers" prog_1_method_59_code 3 false d G l C ((Option.some (Jvm.ClassFile.FieldType.object "QuotaPeers$Session"))) xp58 36 xB58_4.1 xB58_4.2 := sb_cons (n := 3) hC.1 (tz_inc _ _) (so_iinc 2 (1) (1) (by decide +kernel) (by decide) (by decide +kernel)) (sb_nil (tz_goto _ _) (st_goto (off := -37) (by decide) (by decide +kernel)))
theorem xb58_5 (hC : z_HC l G d z_tb C) : z_SB "QuotaPeers" prog_1_method_59_code 3 false d G l C ((Option.some (Jvm.ClassFile.FieldType.object "QuotaPeers$Session"))) xp58 42 xB58_5.1 xB58_5.2 := sb_cons (n := 1) hC.1 (tz_null) (so_null (by decide +kernel)) (sb_nil (tz_aret) (st_aret rfl (by decide +kernel)))
theorem xm58 (hC : z_HC l G d z_tb C) : z_SM "QuotaPeers" prog_1_method_59_code 3 false d G l C ((Option.some (Jvm.ClassFile.FieldType.object "QuotaPeers$Session"))) xp58 xP58 := by
  intro b
  match b with
  | 0 => exact xb58_0 hC
  | 1 => exact xb58_1 hC
  | 2 => exact xb58_2 hC
  | 3 => exact xb58_3 hC
  | 4 => exact xb58_4 hC
  | 5 => exact xb58_5 hC
  | _ + 6 => exact sb_dead
end
/-! QuotaPeers.decide(LQuotaPeers$Peer;LQuotaPeers$Message;)I -/
def xB59_0 : List z_Op × z_Tm := ([zo_cJ (5), zo_ldA 2, zo_cI (416), zo_crV 207 1 3, zo_minJ, zo_l2i, zo_stI 3, zo_ldA 2, zo_cI (436), zo_crV 207 1 3, zo_stJ 4, zo_ldI 3, zo_cI (1)], zt_icmp (fun x y => x < y) 6 [false, false, false, false, false, false] 1 [true, true, true, true, true, false])
def xB59_1 : List z_Op × z_Tm := ([zo_ldI 3, zo_cI (4)], zt_icmp (fun x y => y < x) 6 [false, false, false, false, false, false] 2 [true, true, true, true, true, false])
def xB59_2 : List z_Op × z_Tm := ([zo_ldA 2, zo_cI (437), zo_crS 55 2], zt_if (fun x => x = 0) 6 [false, false, false, false, false, false] 3 [true, true, true, true, true, false])
def xB59_3 : List z_Op × z_Tm := ([zo_ldA 2, zo_cI (446), zo_crS 55 2], zt_if (fun x => x = 0) 6 [false, false, false, false, false, false] 4 [true, true, true, true, true, false])
def xB59_4 : List z_Op × z_Tm := ([zo_ldI 3, zo_cI (4)], zt_icmp (fun x y => x = y) 5 [true, true, true, true, true, false] 7 [true, true, true, true, true, false])
def xB59_5 : List z_Op × z_Tm := ([zo_ldJ 4, zo_cJ (0), zo_cJ (2), zo_crS 2 3], zt_if (fun x => x = 0) 6 [false, false, false, false, false, false] 7 [true, true, true, true, true, false])
def xB59_6 : List z_Op × z_Tm := ([zo_cI (5004)], zt_iret)
def xB59_7 : List z_Op × z_Tm := ([zo_ldI 3], zt_sw [(1, 8, [true, true, true, false, false, false]), (2, 9, [true, true, true, false, false, false]), (3, 10, [true, false, true, false, false, false])] (11, [true, false, true, false, true, false]))
def xB59_8 : List z_Op × z_Tm := ([zo_ldA 0, zo_ldA 1, zo_ldA 2, zo_crV 62 2 0], zt_iret)
def xB59_9 : List z_Op × z_Tm := ([zo_ldA 0, zo_ldA 1, zo_ldA 2, zo_crV 64 2 0], zt_iret)
def xB59_10 : List z_Op × z_Tm := ([zo_ldA 0, zo_ldA 2, zo_crV 66 1 0], zt_iret)
def xB59_11 : List z_Op × z_Tm := ([zo_ldA 0, zo_ldA 2, zo_ldJ 4, zo_l2i, zo_crV 67 2 0], zt_iret)
def xp59 : Nat → Nat := fun b => ([0, 29, 34, 44, 54, 59, 71, 75, 104, 111, 118, 124] : List Nat).getD b 0
def xP59 : z_M := fun b => ([xB59_0, xB59_1, xB59_2, xB59_3, xB59_4, xB59_5, xB59_6, xB59_7, xB59_8, xB59_9, xB59_10, xB59_11] : List (List z_Op × z_Tm)).getD b z_dead
section
variable {d : Nat} {G : z_G} {l : Launch} {C : z_O}
theorem xb59_0 (hC : z_HC l G d z_tb C) : z_SB "QuotaPeers" prog_1_method_60_code 6 false d G l C ((Option.some Jvm.ClassFile.FieldType.int)) xp59 0 xB59_0.1 xB59_0.2 := sb_cons (n := 3) hC.1 (tz_cJ _) (so_ldc2 556 (5) w943 (by decide +kernel)) (sb_cons (n := 1) hC.1 (tz_ldA _) (so_aload_n 2 (by decide +kernel)) (sb_cons (n := 3) hC.1 (tz_cI _) (so_sipush (416) (416) (by decide +kernel) (by decide +kernel)) (sb_cons (n := 3) hC.1 (tz_crV _ _ _) (xc_207 hC w901 (by decide +kernel)) (sb_cons (n := 3) hC.1 (tz_minJ) (xm_min w944 (by decide +kernel)) (sb_cons (n := 1) hC.1 (tz_l2i) (so_l2i (by decide +kernel)) (sb_cons (n := 1) hC.1 (tz_stI _) (so_istore_n 3 (by decide) (by decide +kernel)) (sb_cons (n := 1) hC.1 (tz_ldA _) (so_aload_n 2 (by decide +kernel)) (sb_cons (n := 3) hC.1 (tz_cI _) (so_sipush (436) (436) (by decide +kernel) (by decide +kernel)) (sb_cons (n := 3) hC.1 (tz_crV _ _ _) (xc_207 hC w901 (by decide +kernel)) (sb_cons (n := 2) hC.1 (tz_stJ _) (so_lstore 4 (by decide) (by decide +kernel)) (sb_cons (n := 1) hC.1 (tz_ldI _) (so_iload_n 3 (by decide +kernel)) (sb_cons (n := 1) hC.1 (tz_cI _) (so_iconst (1) (1) (by decide +kernel) (by decide +kernel)) (sb_nil (tz_icmp _ _ _ _ _) (st_icmp_lt (off := 45) (by decide) (by decide) (by decide +kernel)))))))))))))))
theorem xb59_1 (hC : z_HC l G d z_tb C) : z_SB "QuotaPeers" prog_1_method_60_code 6 false d G l C ((Option.some Jvm.ClassFile.FieldType.int)) xp59 29 xB59_1.1 xB59_1.2 := sb_cons (n := 1) hC.1 (tz_ldI _) (so_iload_n 3 (by decide +kernel)) (sb_cons (n := 1) hC.1 (tz_cI _) (so_iconst (4) (4) (by decide +kernel) (by decide +kernel)) (sb_nil (tz_icmp _ _ _ _ _) (st_icmp_gt (off := 40) (by decide) (by decide) (by decide +kernel))))
theorem xb59_2 (hC : z_HC l G d z_tb C) : z_SB "QuotaPeers" prog_1_method_60_code 6 false d G l C ((Option.some Jvm.ClassFile.FieldType.int)) xp59 34 xB59_2.1 xB59_2.2 := sb_cons (n := 1) hC.1 (tz_ldA _) (so_aload_n 2 (by decide +kernel)) (sb_cons (n := 3) hC.1 (tz_cI _) (so_sipush (437) (437) (by decide +kernel) (by decide +kernel)) (sb_cons (n := 3) hC.1 (tz_crS _ _) (xc_55 hC w947 (by decide +kernel)) (sb_nil (tz_if _ _ _ _ _) (st_if_eq (off := 30) (by decide) (by decide) (by decide +kernel)))))
theorem xb59_3 (hC : z_HC l G d z_tb C) : z_SB "QuotaPeers" prog_1_method_60_code 6 false d G l C ((Option.some Jvm.ClassFile.FieldType.int)) xp59 44 xB59_3.1 xB59_3.2 := sb_cons (n := 1) hC.1 (tz_ldA _) (so_aload_n 2 (by decide +kernel)) (sb_cons (n := 3) hC.1 (tz_cI _) (so_sipush (446) (446) (by decide +kernel) (by decide +kernel)) (sb_cons (n := 3) hC.1 (tz_crS _ _) (xc_55 hC w947 (by decide +kernel)) (sb_nil (tz_if _ _ _ _ _) (st_if_eq (off := 20) (by decide) (by decide) (by decide +kernel)))))
theorem xb59_4 (hC : z_HC l G d z_tb C) : z_SB "QuotaPeers" prog_1_method_60_code 6 false d G l C ((Option.some Jvm.ClassFile.FieldType.int)) xp59 54 xB59_4.1 xB59_4.2 := sb_cons (n := 1) hC.1 (tz_ldI _) (so_iload_n 3 (by decide +kernel)) (sb_cons (n := 1) hC.1 (tz_cI _) (so_iconst (4) (4) (by decide +kernel) (by decide +kernel)) (sb_nil (tz_icmp _ _ _ _ _) (st_icmp_ne (off := 19) (by decide) (by decide) (by decide +kernel))))
theorem xb59_5 (hC : z_HC l G d z_tb C) : z_SB "QuotaPeers" prog_1_method_60_code 6 false d G l C ((Option.some Jvm.ClassFile.FieldType.int)) xp59 59 xB59_5.1 xB59_5.2 := sb_cons (n := 2) hC.1 (tz_ldJ _) (so_lload 4 (by decide +kernel)) (sb_cons (n := 1) hC.1 (tz_cJ _) (so_lconst 0 (0) (by decide +kernel) (by decide +kernel)) (sb_cons (n := 3) hC.1 (tz_cJ _) (so_ldc2 347 (2) w787 (by decide +kernel)) (sb_cons (n := 3) hC.1 (tz_crS _ _) (xc_2 hC w602 (by decide +kernel)) (sb_nil (tz_if _ _ _ _ _) (st_if_ne (off := 7) (by decide) (by decide) (by decide +kernel))))))
theorem xb59_6 (hC : z_HC l G d z_tb C) : z_SB "QuotaPeers" prog_1_method_60_code 6 false d G l C ((Option.some Jvm.ClassFile.FieldType.int)) xp59 71 xB59_6.1 xB59_6.2 := sb_cons (n := 3) hC.1 (tz_cI _) (so_sipush (5004) (5004) (by decide +kernel) (by decide +kernel)) (sb_nil (tz_iret) (st_iret rfl (by decide +kernel)))
theorem xb59_7 (hC : z_HC l G d z_tb C) : z_SB "QuotaPeers" prog_1_method_60_code 6 false d G l C ((Option.some Jvm.ClassFile.FieldType.int)) xp59 75 xB59_7.1 xB59_7.2 := sb_cons (n := 1) hC.1 (tz_ldI _) (so_iload_n 3 (by decide +kernel)) (sb_nil (tz_sw _ _) (st_table (dflt := 48) (lo := 1) (hi := 3) (offs := #[28, 35, 42]) (len := 28) (by decide +kernel) (by decide) (by decide +kernel)))
theorem xb59_8 (hC : z_HC l G d z_tb C) : z_SB "QuotaPeers" prog_1_method_60_code 6 false d G l C ((Option.some Jvm.ClassFile.FieldType.int)) xp59 104 xB59_8.1 xB59_8.2 := sb_cons (n := 1) hC.1 (tz_ldA _) (so_aload_n 0 (by decide +kernel)) (sb_cons (n := 1) hC.1 (tz_ldA _) (so_aload_n 1 (by decide +kernel)) (sb_cons (n := 1) hC.1 (tz_ldA _) (so_aload_n 2 (by decide +kernel)) (sb_cons (n := 3) hC.1 (tz_crV _ _ _) (xc_62 hC w955 (by decide +kernel)) (sb_nil (tz_iret) (st_iret rfl (by decide +kernel))))))
theorem xb59_9 (hC : z_HC l G d z_tb C) : z_SB "QuotaPeers" prog_1_method_60_code 6 false d G l C ((Option.some Jvm.ClassFile.FieldType.int)) xp59 111 xB59_9.1 xB59_9.2 := sb_cons (n := 1) hC.1 (tz_ldA _) (so_aload_n 0 (by decide +kernel)) (sb_cons (n := 1) hC.1 (tz_ldA _) (so_aload_n 1 (by decide +kernel)) (sb_cons (n := 1) hC.1 (tz_ldA _) (so_aload_n 2 (by decide +kernel)) (sb_cons (n := 3) hC.1 (tz_crV _ _ _) (xc_64 hC w1003 (by decide +kernel)) (sb_nil (tz_iret) (st_iret rfl (by decide +kernel))))))
theorem xb59_10 (hC : z_HC l G d z_tb C) : z_SB "QuotaPeers" prog_1_method_60_code 6 false d G l C ((Option.some Jvm.ClassFile.FieldType.int)) xp59 118 xB59_10.1 xB59_10.2 := sb_cons (n := 1) hC.1 (tz_ldA _) (so_aload_n 0 (by decide +kernel)) (sb_cons (n := 1) hC.1 (tz_ldA _) (so_aload_n 2 (by decide +kernel)) (sb_cons (n := 3) hC.1 (tz_crV _ _ _) (xc_66 hC w1018 (by decide +kernel)) (sb_nil (tz_iret) (st_iret rfl (by decide +kernel)))))
theorem xb59_11 (hC : z_HC l G d z_tb C) : z_SB "QuotaPeers" prog_1_method_60_code 6 false d G l C ((Option.some Jvm.ClassFile.FieldType.int)) xp59 124 xB59_11.1 xB59_11.2 := sb_cons (n := 1) hC.1 (tz_ldA _) (so_aload_n 0 (by decide +kernel)) (sb_cons (n := 1) hC.1 (tz_ldA _) (so_aload_n 2 (by decide +kernel)) (sb_cons (n := 2) hC.1 (tz_ldJ _) (so_lload 4 (by decide +kernel)) (sb_cons (n := 1) hC.1 (tz_l2i) (so_l2i (by decide +kernel)) (sb_cons (n := 3) hC.1 (tz_crV _ _ _) (xc_67 hC w1026 (by decide +kernel)) (sb_nil (tz_iret) (st_iret rfl (by decide +kernel)))))))
theorem xm59 (hC : z_HC l G d z_tb C) : z_SM "QuotaPeers" prog_1_method_60_code 6 false d G l C ((Option.some Jvm.ClassFile.FieldType.int)) xp59 xP59 := by
  intro b
  match b with
  | 0 => exact xb59_0 hC
  | 1 => exact xb59_1 hC
  | 2 => exact xb59_2 hC
  | 3 => exact xb59_3 hC
  | 4 => exact xb59_4 hC
  | 5 => exact xb59_5 hC
  | 6 => exact xb59_6 hC
  | 7 => exact xb59_7 hC
  | 8 => exact xb59_8 hC
  | 9 => exact xb59_9 hC
  | 10 => exact xb59_10 hC
  | 11 => exact xb59_11 hC
  | _ + 12 => exact sb_dead
end
/-! QuotaPeers.note(LQuotaPeers$Session;LQuotaPeers$Peer;LQuotaPeers$Message;)V -/
def xB60_0 : List z_Op × z_Tm := ([zo_ldA 2, zo_cI (264), zo_ldA 0, zo_gR 5 1, zo_cvV 209 2 3, zo_ldA 2, zo_cI (296), zo_ldA 0, zo_gR 5 2, zo_cvV 209 2 3, zo_ldA 0, zo_ldA 2, zo_cI (415), zo_crV 207 1 3, zo_pJ 5 5, zo_ldA 0, zo_ldA 1, zo_gI 9 0, zo_pI 5 6], zt_vret)
def xp60 : Nat → Nat := fun b => ([0] : List Nat).getD b 0
def xP60 : z_M := fun b => ([xB60_0] : List (List z_Op × z_Tm)).getD b z_dead
section
variable {d : Nat} {G : z_G} {l : Launch} {C : z_O}
theorem xb60_0 (hC : z_HC l G d z_tb C) : z_SB "QuotaPeers" prog_1_method_61_code 3 false d G l C ((Option.none : Option Jvm.ClassFile.FieldType)) xp60 0 xB60_0.1 xB60_0.2 := sb_cons (n := 1) hC.1 (tz_ldA _) (so_aload_n 2 (by decide +kernel)) (sb_cons (n := 3) hC.1 (tz_cI _) (so_sipush (264) (264) (by decide +kernel) (by decide +kernel)) (sb_cons (n := 1) hC.1 (tz_ldA _) (so_aload_n 0 (by decide +kernel)) (sb_cons (n := 3) hC.1 (tz_gR _ _) (xgN_5_1 w342 (by decide +kernel)) (sb_cons (n := 3) hC.1 (tz_cvV _ _ _) (xc_209 hC w977 (by decide +kernel)) (sb_cons (n := 1) hC.1 (tz_ldA _) (so_aload_n 2 (by decide +kernel)) (sb_cons (n := 3) hC.1 (tz_cI _) (so_sipush (296) (296) (by decide +kernel) (by decide +kernel)) (sb_cons (n := 1) hC.1 (tz_ldA _) (so_aload_n 0 (by decide +kernel)) (sb_cons (n := 3) hC.1 (tz_gR _ _) (xgN_5_2 w344 (by decide +kernel)) (sb_cons (n := 3) hC.1 (tz_cvV _ _ _) (xc_209 hC w977 (by decide +kernel)) (sb_cons (n := 1) hC.1 (tz_ldA _) (so_aload_n 0 (by decide +kernel)) (sb_cons (n := 1) hC.1 (tz_ldA _) (so_aload_n 2 (by decide +kernel)) (sb_cons (n := 3) hC.1 (tz_cI _) (so_sipush (415) (415) (by decide +kernel) (by decide +kernel)) (sb_cons (n := 3) hC.1 (tz_crV _ _ _) (xc_207 hC w901 (by decide +kernel)) (sb_cons (n := 3) hC.1 (tz_pJ _ _) (xpN_5_5 w349 (by decide +kernel)) (sb_cons (n := 1) hC.1 (tz_ldA _) (so_aload_n 0 (by decide +kernel)) (sb_cons (n := 1) hC.1 (tz_ldA _) (so_aload_n 1 (by decide +kernel)) (sb_cons (n := 3) hC.1 (tz_gI _ _) (xgN_9_0 w532 (by decide +kernel)) (sb_cons (n := 3) hC.1 (tz_pI _ _) (xpN_5_6 w350 (by decide +kernel)) (sb_nil (tz_vret) (st_vret rfl (by decide +kernel)))))))))))))))))))))
theorem xm60 (hC : z_HC l G d z_tb C) : z_SM "QuotaPeers" prog_1_method_61_code 3 false d G l C ((Option.none : Option Jvm.ClassFile.FieldType)) xp60 xP60 := by
  intro b
  match b with
  | 0 => exact xb60_0 hC
  | _ + 1 => exact sb_dead
end
/-! QuotaPeers.grant(LQuotaPeers$Session;LQuotaPeers$Message;)I -/
def xB61_0 : List z_Op × z_Tm := ([zo_ldA 2, zo_cI (437), zo_crS 54 2, zo_stJ 3, zo_ldA 1, zo_ldJ 3, zo_cJ (0), zo_lcmp], zt_if (fun x => 0 ≤ x) 2 [true, true, false, true, false] 1 [true, true, false, false, false])
def xB61_1 : List z_Op × z_Tm := ([zo_cJ (1000)], zt_goto 3 [true, true, false, false, false])
def xB61_2 : List z_Op × z_Tm := ([zo_ldJ 3], zt_goto 3 [true, true, false, false, false])
def xB61_3 : List z_Op × z_Tm := ([zo_cvV 237 1 5, zo_ldA 1, zo_ldA 0, zo_gI 0 17, zo_cI (600), zo_ii ((· + ·)), zo_pI 5 7, zo_ldA 0, zo_ldA 1, zo_pR 0 20, zo_cI (2001)], zt_iret)
def xp61 : Nat → Nat := fun b => ([0, 15, 21, 22] : List Nat).getD b 0
def xP61 : z_M := fun b => ([xB61_0, xB61_1, xB61_2, xB61_3] : List (List z_Op × z_Tm)).getD b z_dead
section
variable {d : Nat} {G : z_G} {l : Launch} {C : z_O}
theorem xb61_0 (hC : z_HC l G d z_tb C) : z_SB "QuotaPeers" prog_1_method_62_code 5 false d G l C ((Option.some Jvm.ClassFile.FieldType.int)) xp61 0 xB61_0.1 xB61_0.2 := sb_cons (n := 1) hC.1 (tz_ldA _) (so_aload_n 2 (by decide +kernel)) (sb_cons (n := 3) hC.1 (tz_cI _) (so_sipush (437) (437) (by decide +kernel) (by decide +kernel)) (sb_cons (n := 3) hC.1 (tz_crS _ _) (xc_54 hC w992 (by decide +kernel)) (sb_cons (n := 1) hC.1 (tz_stJ _) (so_lstore_n 3 (by decide) (by decide +kernel)) (sb_cons (n := 1) hC.1 (tz_ldA _) (so_aload_n 1 (by decide +kernel)) (sb_cons (n := 1) hC.1 (tz_ldJ _) (so_lload_n 3 (by decide +kernel)) (sb_cons (n := 1) hC.1 (tz_cJ _) (so_lconst 0 (0) (by decide +kernel) (by decide +kernel)) (sb_cons (n := 1) hC.1 (tz_lcmp) (so_lcmp (by decide +kernel)) (sb_nil (tz_if _ _ _ _ _) (st_if_ge (off := 9) (by decide) (by decide) (by decide +kernel))))))))))
theorem xb61_1 (hC : z_HC l G d z_tb C) : z_SB "QuotaPeers" prog_1_method_62_code 5 false d G l C ((Option.some Jvm.ClassFile.FieldType.int)) xp61 15 xB61_1.1 xB61_1.2 := sb_cons (n := 3) hC.1 (tz_cJ _) (so_ldc2 585 (1000) w996 (by decide +kernel)) (sb_nil (tz_goto _ _) (st_goto (off := 4) (by decide) (by decide +kernel)))
theorem xb61_2 (hC : z_HC l G d z_tb C) : z_SB "QuotaPeers" prog_1_method_62_code 5 false d G l C ((Option.some Jvm.ClassFile.FieldType.int)) xp61 21 xB61_2.1 xB61_2.2 := sb_cons (n := 1) hC.1 (tz_ldJ _) (so_lload_n 3 (by decide +kernel)) (sb_nil (tz_goto _ _) (st_fall (by decide)))
theorem xb61_3 (hC : z_HC l G d z_tb C) : z_SB "QuotaPeers" prog_1_method_62_code 5 false d G l C ((Option.some Jvm.ClassFile.FieldType.int)) xp61 22 xB61_3.1 xB61_3.2 := sb_cons (n := 3) hC.1 (tz_cvV _ _ _) (xc_237 hC w997 (by decide +kernel)) (sb_cons (n := 1) hC.1 (tz_ldA _) (so_aload_n 1 (by decide +kernel)) (sb_cons (n := 1) hC.1 (tz_ldA _) (so_aload_n 0 (by decide +kernel)) (sb_cons (n := 3) hC.1 (tz_gI _ _) (xg_0_17 w446 (by decide +kernel)) (sb_cons (n := 3) hC.1 (tz_cI _) (so_sipush (600) (600) (by decide +kernel) (by decide +kernel)) (sb_cons (n := 1) hC.1 (tz_ii _) (so_iadd (by decide +kernel)) (sb_cons (n := 3) hC.1 (tz_pI _ _) (xpN_5_7 w351 (by decide +kernel)) (sb_cons (n := 1) hC.1 (tz_ldA _) (so_aload_n 0 (by decide +kernel)) (sb_cons (n := 1) hC.1 (tz_ldA _) (so_aload_n 1 (by decide +kernel)) (sb_cons (n := 3) hC.1 (tz_pR _ _) (xp_0_20 w449 (by decide +kernel)) (sb_cons (n := 3) hC.1 (tz_cI _) (so_sipush (2001) (2001) (by decide +kernel) (by decide +kernel)) (sb_nil (tz_iret) (st_iret rfl (by decide +kernel)))))))))))))
theorem xm61 (hC : z_HC l G d z_tb C) : z_SM "QuotaPeers" prog_1_method_62_code 5 false d G l C ((Option.some Jvm.ClassFile.FieldType.int)) xp61 xP61 := by
  intro b
  match b with
  | 0 => exact xb61_0 hC
  | 1 => exact xb61_1 hC
  | 2 => exact xb61_2 hC
  | 3 => exact xb61_3 hC
  | _ + 4 => exact sb_dead
end
/-! QuotaPeers.begins(LQuotaPeers$Peer;LQuotaPeers$Message;)I -/
def xB62_0 : List z_Op × z_Tm := ([zo_ldA 0, zo_ldA 2, zo_crV 57 1 0, zo_stA 3, zo_ldA 3], zt_null 1 [false, false, false, false, false] 2 [true, true, true, true, false])
def xB62_1 : List z_Op × z_Tm := ([zo_cI (5030)], zt_iret)
def xB62_2 : List z_Op × z_Tm := ([zo_ldA 0, zo_ldA 2, zo_crV 58 1 0], zt_null 3 [true, true, true, true, false] 4 [false, false, false, false, false])
def xB62_3 : List z_Op × z_Tm := ([zo_ldA 0, zo_gI 0 12, zo_cI (16)], zt_icmp (fun x y => x = y) 4 [false, false, false, false, false] 5 [true, true, true, true, false])
def xB62_4 : List z_Op × z_Tm := ([zo_cI (5012)], zt_iret)
def xB62_5 : List z_Op × z_Tm := ([zo_ldA 3, zo_crV 187 0 10, zo_cJ (0), zo_lcmp], zt_if (fun x => x = 0) 6 [false, false, false, false, false] 7 [true, true, true, true, false])
def xB62_6 : List z_Op × z_Tm := ([zo_cI (4012)], zt_iret)
def xB62_7 : List z_Op × z_Tm := ([zo_ldA 0, zo_gR 0 11, zo_ldA 0, zo_dupR, zo_gI 0 12, zo_dupx1, zo_cI (1), zo_ii ((· + ·)), zo_pI 0 12, zo_aldR, zo_stA 4, zo_ldA 2, zo_cI (263), zo_ldA 4, zo_gR 5 0, zo_cvV 209 2 3, zo_ldA 4, zo_ldA 3, zo_pR 5 3, zo_ldA 4, zo_cJ (0), zo_pJ 5 4, zo_ldA 4, zo_ldA 1, zo_ldA 2, zo_cvS 60 3, zo_ldA 0, zo_ldA 4, zo_ldA 2, zo_crV 61 2 0], zt_iret)
def xp62 : Nat → Nat := fun b => ([0, 10, 14, 22, 31, 35, 44, 48] : List Nat).getD b 0
def xP62 : z_M := fun b => ([xB62_0, xB62_1, xB62_2, xB62_3, xB62_4, xB62_5, xB62_6, xB62_7] : List (List z_Op × z_Tm)).getD b z_dead
section
variable {d : Nat} {G : z_G} {l : Launch} {C : z_O}
theorem xb62_0 (hC : z_HC l G d z_tb C) : z_SB "QuotaPeers" prog_1_method_63_code 5 false d G l C ((Option.some Jvm.ClassFile.FieldType.int)) xp62 0 xB62_0.1 xB62_0.2 := sb_cons (n := 1) hC.1 (tz_ldA _) (so_aload_n 0 (by decide +kernel)) (sb_cons (n := 1) hC.1 (tz_ldA _) (so_aload_n 2 (by decide +kernel)) (sb_cons (n := 3) hC.1 (tz_crV _ _ _) (xc_57 hC w959 (by decide +kernel)) (sb_cons (n := 1) hC.1 (tz_stA _) (so_astore_n 3 (by decide) (by decide +kernel)) (sb_cons (n := 1) hC.1 (tz_ldA _) (so_aload_n 3 (by decide +kernel)) (sb_nil (tz_nul _ _ _ _) (st_ifnonnull (off := 7) (by decide) (by decide) (by decide +kernel)))))))
theorem xb62_1 (hC : z_HC l G d z_tb C) : z_SB "QuotaPeers" prog_1_method_63_code 5 false d G l C ((Option.some Jvm.ClassFile.FieldType.int)) xp62 10 xB62_1.1 xB62_1.2 := sb_cons (n := 3) hC.1 (tz_cI _) (so_sipush (5030) (5030) (by decide +kernel) (by decide +kernel)) (sb_nil (tz_iret) (st_iret rfl (by decide +kernel)))
theorem xb62_2 (hC : z_HC l G d z_tb C) : z_SB "QuotaPeers" prog_1_method_63_code 5 false d G l C ((Option.some Jvm.ClassFile.FieldType.int)) xp62 14 xB62_2.1 xB62_2.2 := sb_cons (n := 1) hC.1 (tz_ldA _) (so_aload_n 0 (by decide +kernel)) (sb_cons (n := 1) hC.1 (tz_ldA _) (so_aload_n 2 (by decide +kernel)) (sb_cons (n := 3) hC.1 (tz_crV _ _ _) (xc_58 hC w969 (by decide +kernel)) (sb_nil (tz_nul _ _ _ _) (st_ifnonnull (off := 12) (by decide) (by decide) (by decide +kernel)))))
theorem xb62_3 (hC : z_HC l G d z_tb C) : z_SB "QuotaPeers" prog_1_method_63_code 5 false d G l C ((Option.some Jvm.ClassFile.FieldType.int)) xp62 22 xB62_3.1 xB62_3.2 := sb_cons (n := 1) hC.1 (tz_ldA _) (so_aload_n 0 (by decide +kernel)) (sb_cons (n := 3) hC.1 (tz_gI _ _) (xg_0_12 w441 (by decide +kernel)) (sb_cons (n := 2) hC.1 (tz_cI _) (so_bipush (16) (16) (by decide +kernel) (by decide +kernel)) (sb_nil (tz_icmp _ _ _ _ _) (st_icmp_ne (off := 7) (by decide) (by decide) (by decide +kernel)))))
theorem xb62_4 (hC : z_HC l G d z_tb C) : z_SB "QuotaPeers" prog_1_method_63_code 5 false d G l C ((Option.some Jvm.ClassFile.FieldType.int)) xp62 31 xB62_4.1 xB62_4.2 := sb_cons (n := 3) hC.1 (tz_cI _) (so_sipush (5012) (5012) (by decide +kernel) (by decide +kernel)) (sb_nil (tz_iret) (st_iret rfl (by decide +kernel)))
theorem xb62_5 (hC : z_HC l G d z_tb C) : z_SB "QuotaPeers" prog_1_method_63_code 5 false d G l C ((Option.some Jvm.ClassFile.FieldType.int)) xp62 35 xB62_5.1 xB62_5.2 := sb_cons (n := 1) hC.1 (tz_ldA _) (so_aload_n 3 (by decide +kernel)) (sb_cons (n := 3) hC.1 (tz_crV _ _ _) (xc_187 hC w973 (by decide +kernel)) (sb_cons (n := 1) hC.1 (tz_cJ _) (so_lconst 0 (0) (by decide +kernel) (by decide +kernel)) (sb_cons (n := 1) hC.1 (tz_lcmp) (so_lcmp (by decide +kernel)) (sb_nil (tz_if _ _ _ _ _) (st_if_ne (off := 7) (by decide) (by decide) (by decide +kernel))))))
theorem xb62_6 (hC : z_HC l G d z_tb C) : z_SB "QuotaPeers" prog_1_method_63_code 5 false d G l C ((Option.some Jvm.ClassFile.FieldType.int)) xp62 44 xB62_6.1 xB62_6.2 := sb_cons (n := 3) hC.1 (tz_cI _) (so_sipush (4012) (4012) (by decide +kernel) (by decide +kernel)) (sb_nil (tz_iret) (st_iret rfl (by decide +kernel)))
theorem xb62_7 (hC : z_HC l G d z_tb C) : z_SB "QuotaPeers" prog_1_method_63_code 5 false d G l C ((Option.some Jvm.ClassFile.FieldType.int)) xp62 48 xB62_7.1 xB62_7.2 := sb_cons (n := 1) hC.1 (tz_ldA _) (so_aload_n 0 (by decide +kernel)) (sb_cons (n := 3) hC.1 (tz_gR _ _) (xg_0_11 w440 (by decide +kernel)) (sb_cons (n := 1) hC.1 (tz_ldA _) (so_aload_n 0 (by decide +kernel)) (sb_cons (n := 1) hC.1 (tz_dupR) (so_dupR (by decide +kernel)) (sb_cons (n := 3) hC.1 (tz_gI _ _) (xg_0_12 w441 (by decide +kernel)) (sb_cons (n := 1) hC.1 (tz_dupx1) (so_dupx1 (by decide +kernel)) (sb_cons (n := 1) hC.1 (tz_cI _) (so_iconst (1) (1) (by decide +kernel) (by decide +kernel)) (sb_cons (n := 1) hC.1 (tz_ii _) (so_iadd (by decide +kernel)) (sb_cons (n := 3) hC.1 (tz_pI _ _) (xp_0_12 w441 (by decide +kernel)) (sb_cons (n := 1) hC.1 (tz_aldR) (so_aaload (by decide +kernel)) (sb_cons (n := 2) hC.1 (tz_stA _) (so_astore 4 (by decide) (by decide +kernel)) (sb_cons (n := 1) hC.1 (tz_ldA _) (so_aload_n 2 (by decide +kernel)) (sb_cons (n := 3) hC.1 (tz_cI _) (so_sipush (263) (263) (by decide +kernel) (by decide +kernel)) (sb_cons (n := 2) hC.1 (tz_ldA _) (so_aload 4 (by decide +kernel)) (sb_cons (n := 3) hC.1 (tz_gR _ _) (xgN_5_0 w340 (by decide +kernel)) (sb_cons (n := 3) hC.1 (tz_cvV _ _ _) (xc_209 hC w977 (by decide +kernel)) (sb_cons (n := 2) hC.1 (tz_ldA _) (so_aload 4 (by decide +kernel)) (sb_cons (n := 1) hC.1 (tz_ldA _) (so_aload_n 3 (by decide +kernel)) (sb_cons (n := 3) hC.1 (tz_pR _ _) (xpN_5_3 w346 (by decide +kernel)) (sb_cons (n := 2) hC.1 (tz_ldA _) (so_aload 4 (by decide +kernel)) (sb_cons (n := 1) hC.1 (tz_cJ _) (so_lconst 0 (0) (by decide +kernel) (by decide +kernel)) (sb_cons (n := 3) hC.1 (tz_pJ _ _) (xpN_5_4 w348 (by decide +kernel)) (sb_cons (n := 2) hC.1 (tz_ldA _) (so_aload 4 (by decide +kernel)) (sb_cons (n := 1) hC.1 (tz_ldA _) (so_aload_n 1 (by decide +kernel)) (sb_cons (n := 1) hC.1 (tz_ldA _) (so_aload_n 2 (by decide +kernel)) (sb_cons (n := 3) hC.1 (tz_cvS _ _) (xc_60 hC w985 (by decide +kernel)) (sb_cons (n := 1) hC.1 (tz_ldA _) (so_aload_n 0 (by decide +kernel)) (sb_cons (n := 2) hC.1 (tz_ldA _) (so_aload 4 (by decide +kernel)) (sb_cons (n := 1) hC.1 (tz_ldA _) (so_aload_n 2 (by decide +kernel)) (sb_cons (n := 3) hC.1 (tz_crV _ _ _) (xc_61 hC w988 (by decide +kernel)) (sb_nil (tz_iret) (st_iret rfl (by decide +kernel))))))))))))))))))))))))))))))))
theorem xm62 (hC : z_HC l G d z_tb C) : z_SM "QuotaPeers" prog_1_method_63_code 5 false d G l C ((Option.some Jvm.ClassFile.FieldType.int)) xp62 xP62 := by
  intro b
  match b with
  | 0 => exact xb62_0 hC
  | 1 => exact xb62_1 hC
  | 2 => exact xb62_2 hC
  | 3 => exact xb62_3 hC
  | 4 => exact xb62_4 hC
  | 5 => exact xb62_5 hC
  | 6 => exact xb62_6 hC
  | 7 => exact xb62_7 hC
  | _ + 8 => exact sb_dead
end
/-! QuotaPeers.used(LQuotaPeers$Message;)J -/
def xB63_0 : List z_Op × z_Tm := ([zo_cJ (0), zo_ldA 0, zo_cI (446), zo_crS 54 2, zo_maxJ], zt_lret)
def xp63 : Nat → Nat := fun b => ([0] : List Nat).getD b 0
def xP63 : z_M := fun b => ([xB63_0] : List (List z_Op × z_Tm)).getD b z_dead
section
variable {d : Nat} {G : z_G} {l : Launch} {C : z_O}
theorem xb63_0 (hC : z_HC l G d z_tb C) : z_SB "QuotaPeers" prog_1_method_64_code 1 false d G l C ((Option.some Jvm.ClassFile.FieldType.long)) xp63 0 xB63_0.1 xB63_0.2 := sb_cons (n := 1) hC.1 (tz_cJ _) (so_lconst 0 (0) (by decide +kernel) (by decide +kernel)) (sb_cons (n := 1) hC.1 (tz_ldA _) (so_aload_n 0 (by decide +kernel)) (sb_cons (n := 3) hC.1 (tz_cI _) (so_sipush (446) (446) (by decide +kernel) (by decide +kernel)) (sb_cons (n := 3) hC.1 (tz_crS _ _) (xc_54 hC w992 (by decide +kernel)) (sb_cons (n := 3) hC.1 (tz_maxJ) (xm_max w918 (by decide +kernel)) (sb_nil (tz_lret) (st_lret rfl (by decide +kernel)))))))
theorem xm63 (hC : z_HC l G d z_tb C) : z_SM "QuotaPeers" prog_1_method_64_code 1 false d G l C ((Option.some Jvm.ClassFile.FieldType.long)) xp63 xP63 := by
  intro b
  match b with
  | 0 => exact xb63_0 hC
  | _ + 1 => exact sb_dead
end
/-! QuotaPeers.goesOn(LQuotaPeers$Peer;LQuotaPeers$Message;)I -/
def xB64_0 : List z_Op × z_Tm := ([zo_ldA 0, zo_ldA 2, zo_crV 58 1 0, zo_stA 3, zo_ldA 3], zt_null 1 [false, false, false, false] 2 [true, true, true, true])
def xB64_1 : List z_Op × z_Tm := ([zo_cI (5002)], zt_iret)
def xB64_2 : List z_Op × z_Tm := ([zo_ldA 2, zo_cI (415), zo_crV 207 1 3, zo_ldA 3, zo_gJ 5 5, zo_lcmp], zt_if (fun x => 0 < x) 4 [true, true, true, true] 3 [false, false, false, false])
def xB64_3 : List z_Op × z_Tm := ([zo_cI (5012)], zt_iret)
def xB64_4 : List z_Op × z_Tm := ([zo_ldA 3, zo_ldA 2, zo_crS 63 1, zo_cvV 236 1 5, zo_ldA 3, zo_ldA 1, zo_ldA 2, zo_cvS 60 3, zo_ldA 3, zo_gR 5 3, zo_crV 187 0 10, zo_cJ (0), zo_lcmp], zt_if (fun x => x ≤ 0) 6 [true, false, false, true] 5 [true, false, true, true])
def xB64_5 : List z_Op × z_Tm := ([zo_ldA 0, zo_ldA 3, zo_ldA 2, zo_crV 61 2 0], zt_iret)
def xB64_6 : List z_Op × z_Tm := ([zo_ldA 3, zo_ldA 0, zo_gI 0 17, zo_cI (600), zo_ii ((· + ·)), zo_pI 5 7, zo_cI (4012)], zt_iret)
def xp64 : Nat → Nat := fun b => ([0, 10, 14, 29, 33, 59, 66] : List Nat).getD b 0
def xP64 : z_M := fun b => ([xB64_0, xB64_1, xB64_2, xB64_3, xB64_4, xB64_5, xB64_6] : List (List z_Op × z_Tm)).getD b z_dead
section
variable {d : Nat} {G : z_G} {l : Launch} {C : z_O}
theorem xb64_0 (hC : z_HC l G d z_tb C) : z_SB "QuotaPeers" prog_1_method_65_code 4 false d G l C ((Option.some Jvm.ClassFile.FieldType.int)) xp64 0 xB64_0.1 xB64_0.2 := sb_cons (n := 1) hC.1 (tz_ldA _) (so_aload_n 0 (by decide +kernel)) (sb_cons (n := 1) hC.1 (tz_ldA _) (so_aload_n 2 (by decide +kernel)) (sb_cons (n := 3) hC.1 (tz_crV _ _ _) (xc_58 hC w969 (by decide +kernel)) (sb_cons (n := 1) hC.1 (tz_stA _) (so_astore_n 3 (by decide) (by decide +kernel)) (sb_cons (n := 1) hC.1 (tz_ldA _) (so_aload_n 3 (by decide +kernel)) (sb_nil (tz_nul _ _ _ _) (st_ifnonnull (off := 7) (by decide) (by decide) (by decide +kernel)))))))
theorem xb64_1 (hC : z_HC l G d z_tb C) : z_SB "QuotaPeers" prog_1_method_65_code 4 false d G l C ((Option.some Jvm.ClassFile.FieldType.int)) xp64 10 xB64_1.1 xB64_1.2 := sb_cons (n := 3) hC.1 (tz_cI _) (so_sipush (5002) (5002) (by decide +kernel) (by decide +kernel)) (sb_nil (tz_iret) (st_iret rfl (by decide +kernel)))
theorem xb64_2 (hC : z_HC l G d z_tb C) : z_SB "QuotaPeers" prog_1_method_65_code 4 false d G l C ((Option.some Jvm.ClassFile.FieldType.int)) xp64 14 xB64_2.1 xB64_2.2 := sb_cons (n := 1) hC.1 (tz_ldA _) (so_aload_n 2 (by decide +kernel)) (sb_cons (n := 3) hC.1 (tz_cI _) (so_sipush (415) (415) (by decide +kernel) (by decide +kernel)) (sb_cons (n := 3) hC.1 (tz_crV _ _ _) (xc_207 hC w901 (by decide +kernel)) (sb_cons (n := 1) hC.1 (tz_ldA _) (so_aload_n 3 (by decide +kernel)) (sb_cons (n := 3) hC.1 (tz_gJ _ _) (xgN_5_5 w349 (by decide +kernel)) (sb_cons (n := 1) hC.1 (tz_lcmp) (so_lcmp (by decide +kernel)) (sb_nil (tz_if _ _ _ _ _) (st_if_gt (off := 7) (by decide) (by decide) (by decide +kernel))))))))
theorem xb64_3 (hC : z_HC l G d z_tb C) : z_SB "QuotaPeers" prog_1_method_65_code 4 false d G l C ((Option.some Jvm.ClassFile.FieldType.int)) xp64 29 xB64_3.1 xB64_3.2 := sb_cons (n := 3) hC.1 (tz_cI _) (so_sipush (5012) (5012) (by decide +kernel) (by decide +kernel)) (sb_nil (tz_iret) (st_iret rfl (by decide +kernel)))
theorem xb64_4 (hC : z_HC l G d z_tb C) : z_SB "QuotaPeers" prog_1_method_65_code 4 false d G l C ((Option.some Jvm.ClassFile.FieldType.int)) xp64 33 xB64_4.1 xB64_4.2 := sb_cons (n := 1) hC.1 (tz_ldA _) (so_aload_n 3 (by decide +kernel)) (sb_cons (n := 1) hC.1 (tz_ldA _) (so_aload_n 2 (by decide +kernel)) (sb_cons (n := 3) hC.1 (tz_crS _ _) (xc_63 hC w1007 (by decide +kernel)) (sb_cons (n := 3) hC.1 (tz_cvV _ _ _) (xc_236 hC w1010 (by decide +kernel)) (sb_cons (n := 1) hC.1 (tz_ldA _) (so_aload_n 3 (by decide +kernel)) (sb_cons (n := 1) hC.1 (tz_ldA _) (so_aload_n 1 (by decide +kernel)) (sb_cons (n := 1) hC.1 (tz_ldA _) (so_aload_n 2 (by decide +kernel)) (sb_cons (n := 3) hC.1 (tz_cvS _ _) (xc_60 hC w985 (by decide +kernel)) (sb_cons (n := 1) hC.1 (tz_ldA _) (so_aload_n 3 (by decide +kernel)) (sb_cons (n := 3) hC.1 (tz_gR _ _) (xgN_5_3 w346 (by decide +kernel)) (sb_cons (n := 3) hC.1 (tz_crV _ _ _) (xc_187 hC w973 (by decide +kernel)) (sb_cons (n := 1) hC.1 (tz_cJ _) (so_lconst 0 (0) (by decide +kernel) (by decide +kernel)) (sb_cons (n := 1) hC.1 (tz_lcmp) (so_lcmp (by decide +kernel)) (sb_nil (tz_if _ _ _ _ _) (st_if_le (off := 10) (by decide) (by decide) (by decide +kernel)))))))))))))))
theorem xb64_5 (hC : z_HC l G d z_tb C) : z_SB "QuotaPeers" prog_1_method_65_code 4 false d G l C ((Option.some Jvm.ClassFile.FieldType.int)) xp64 59 xB64_5.1 xB64_5.2 := sb_cons (n := 1) hC.1 (tz_ldA _) (so_aload_n 0 (by decide +kernel)) (sb_cons (n := 1) hC.1 (tz_ldA _) (so_aload_n 3 (by decide +kernel)) (sb_cons (n := 1) hC.1 (tz_ldA _) (so_aload_n 2 (by decide +kernel)) (sb_cons (n := 3) hC.1 (tz_crV _ _ _) (xc_61 hC w988 (by decide +kernel)) (sb_nil (tz_iret) (st_iret rfl (by decide +kernel))))))
theorem xb64_6 (hC : z_HC l G d z_tb C) : z_SB "QuotaPeers" prog_1_method_65_code 4 false d G l C ((Option.some Jvm.ClassFile.FieldType.int)) xp64 66 xB64_6.1 xB64_6.2 := sb_cons (n := 1) hC.1 (tz_ldA _) (so_aload_n 3 (by decide +kernel)) (sb_cons (n := 1) hC.1 (tz_ldA _) (so_aload_n 0 (by decide +kernel)) (sb_cons (n := 3) hC.1 (tz_gI _ _) (xg_0_17 w446 (by decide +kernel)) (sb_cons (n := 3) hC.1 (tz_cI _) (so_sipush (600) (600) (by decide +kernel) (by decide +kernel)) (sb_cons (n := 1) hC.1 (tz_ii _) (so_iadd (by decide +kernel)) (sb_cons (n := 3) hC.1 (tz_pI _ _) (xpN_5_7 w351 (by decide +kernel)) (sb_cons (n := 3) hC.1 (tz_cI _) (so_sipush (4012) (4012) (by decide +kernel) (by decide +kernel)) (sb_nil (tz_iret) (st_iret rfl (by decide +kernel)))))))))
theorem xm64 (hC : z_HC l G d z_tb C) : z_SM "QuotaPeers" prog_1_method_65_code 4 false d G l C ((Option.some Jvm.ClassFile.FieldType.int)) xp64 xP64 := by
  intro b
  match b with
  | 0 => exact xb64_0 hC
  | 1 => exact xb64_1 hC
  | 2 => exact xb64_2 hC
  | 3 => exact xb64_3 hC
  | 4 => exact xb64_4 hC
  | 5 => exact xb64_5 hC
  | 6 => exact xb64_6 hC
  | _ + 7 => exact sb_dead
end
/-! QuotaPeers.remove(LQuotaPeers$Session;)V -/
def xB65_0 : List z_Op × z_Tm := ([zo_cI (0), zo_stI 2], zt_goto 1 [true, true, true])
def xB65_1 : List z_Op × z_Tm := ([zo_ldA 0, zo_gR 0 11, zo_ldI 2, zo_aldR, zo_ldA 1], zt_acmp 3 [true, true, true] 2 [true, true, true])
def xB65_2 : List z_Op × z_Tm := ([zo_inc 2 (1)], zt_goto 1 [true, true, true])
def xB65_3 : List z_Op × z_Tm := ([zo_ldA 0, zo_dupR, zo_gI 0 12, zo_cI (1), zo_ii ((· - ·)), zo_pI 0 12], zt_goto 4 [true, true, true])
def xB65_4 : List z_Op × z_Tm := ([zo_ldI 2, zo_ldA 0, zo_gI 0 12], zt_icmp (fun x y => y ≤ x) 6 [true, true, false] 5 [true, true, true])
def xB65_5 : List z_Op × z_Tm := ([zo_ldA 0, zo_gR 0 11, zo_ldI 2, zo_ldA 0, zo_gR 0 11, zo_ldI 2, zo_cI (1), zo_ii ((· + ·)), zo_aldR, zo_astR, zo_inc 2 (1)], zt_goto 4 [true, true, true])
def xB65_6 : List z_Op × z_Tm := ([zo_ldA 0, zo_gR 0 11, zo_ldA 0, zo_gI 0 12, zo_ldA 1, zo_astR], zt_vret)
def xp65 : Nat → Nat := fun b => ([0, 2, 12, 18, 28, 36, 56] : List Nat).getD b 0
def xP65 : z_M := fun b => ([xB65_0, xB65_1, xB65_2, xB65_3, xB65_4, xB65_5, xB65_6] : List (List z_Op × z_Tm)).getD b z_dead
section
variable {d : Nat} {G : z_G} {l : Launch} {C : z_O}
theorem xb65_0 (hC : z_HC l G d z_tb C) : z_SB "QuotaPeers" prog_1_method_66_code 3 false d G l C ((Option.none : Option Jvm.ClassFile.FieldType)) xp65 0 xB65_0.1 xB65_0.2 := sb_cons (n := 1) hC.1 (tz_cI _) (so_iconst (0) (0) (by decide +kernel) (by decide +kernel)) (sb_cons (n := 1) hC.1 (tz_stI _) (so_istore_n 2 (by decide) (by decide +kernel)) (sb_nil (tz_goto _ _) (st_fall (by decide))))
theorem xb65_1 (hC : z_HC l G d z_tb C) : z_SB "QuotaPeers" prog_1_method_66_code 3 false d G l C ((Option.none : Option Jvm.ClassFile.FieldType)) xp65 2 xB65_1.1 xB65_1.2 := sb_cons (n := 1) hC.1 (tz_ldA _) (so_aload_n 0 (by decide +kernel)) (sb_cons (n := 3) hC.1 (tz_gR _ _) (xg_0_11 w440 (by decide +kernel)) (sb_cons (n := 1) hC.1 (tz_ldI _) (so_iload_n 2 (by decide +kernel)) (sb_cons (n := 1) hC.1 (tz_aldR) (so_aaload (by decide +kernel)) (sb_cons (n := 1) hC.1 (tz_ldA _) (so_aload_n 1 (by decide +kernel)) (sb_nil (tz_acmp _ _ _ _) (st_acmpeq (off := 9) (by decide) (by decide) (by decide +kernel)))))))
theorem xb65_2 (hC : z_HC l G d z_tb C) : z_SB "QuotaPeers" prog_1_method_66_code 3 false d G l C ((Option.none : Option Jvm.ClassFile.FieldType)) xp65 12 xB65_2.1 xB65_2.2 := sb_cons (n := 3) hC.1 (tz_inc _ _) (so_iinc 2 (1) (1) (by decide +kernel) (by decide) (by decide +kernel)) (sb_nil (tz_goto _ _) (st_goto (off := -13) (by decide) (by decide +kernel)))
theorem xb65_3 (hC : z_HC l G d z_tb C) : z_SB "QuotaPeers" prog_1_method_66_code 3 false d G l C ((Option.none : Option Jvm.ClassFile.FieldType)) xp65 18 xB65_3.1 xB65_3.2 := sb_cons (n := 1) hC.1 (tz_ldA _) (so_aload_n 0 (by decide +kernel)) (sb_cons (n := 1) hC.1 (tz_dupR) (so_dupR (by decide +kernel)) (sb_cons (n := 3) hC.1 (tz_gI _ _) (xg_0_12 w441 (by decide +kernel)) (sb_cons (n := 1) hC.1 (tz_cI _) (so_iconst (1) (1) (by decide +kernel) (by decide +kernel)) (sb_cons (n := 1) hC.1 (tz_ii _) (so_isub (by decide +kernel)) (sb_cons (n := 3) hC.1 (tz_pI _ _) (xp_0_12 w441 (by decide +kernel)) (sb_nil (tz_goto _ _) (st_fall (by decide))))))))
theorem xb65_4 (hC : z_HC l G d z_tb C) : z_SB "QuotaPeers" prog_1_method_66_code 3 false d G l C ((Option.none : Option Jvm.ClassFile.FieldType)) xp65 28 xB65_4.1 xB65_4.2 := sb_cons (n := 1) hC.1 (tz_ldI _) (so_iload_n 2 (by decide +kernel)) (sb_cons (n := 1) hC.1 (tz_ldA _) (so_aload_n 0 (by decide +kernel)) (sb_cons (n := 3) hC.1 (tz_gI _ _) (xg_0_12 w441 (by decide +kernel)) (sb_nil (tz_icmp _ _ _ _ _) (st_icmp_ge (off := 23) (by decide) (by decide) (by decide +kernel)))))
theorem xb65_5 (hC : z_HC l G d z_tb C) : z_SB "QuotaPeers" prog_1_method_66_code 3 false d G l C ((Option.none : Option Jvm.ClassFile.FieldType)) xp65 36 xB65_5.1 xB65_5.2 := sb_cons (n := 1) hC.1 (tz_ldA _) (so_aload_n 0 (by decide +kernel)) (sb_cons (n := 3) hC.1 (tz_gR _ _) (xg_0_11 w440 (by decide +kernel)) (sb_cons (n := 1) hC.1 (tz_ldI _) (so_iload_n 2 (by decide +kernel)) (sb_cons (n := 1) hC.1 (tz_ldA _) (so_aload_n 0 (by decide +kernel)) (sb_cons (n := 3) hC.1 (tz_gR _ _) (xg_0_11 w440 (by decide +kernel)) (sb_cons (n := 1) hC.1 (tz_ldI _) (so_iload_n 2 (by decide +kernel)) (sb_cons (n := 1) hC.1 (tz_cI _) (so_iconst (1) (1) (by decide +kernel) (by decide +kernel)) (sb_cons (n := 1) hC.1 (tz_ii _) (so_iadd (by decide +kernel)) (sb_cons (n := 1) hC.1 (tz_aldR) (so_aaload (by decide +kernel)) (sb_cons (n := 1) hC.1 (tz_astR) (so_aastore (by decide +kernel)) (sb_cons (n := 3) hC.1 (tz_inc _ _) (so_iinc 2 (1) (1) (by decide +kernel) (by decide) (by decide +kernel)) (sb_nil (tz_goto _ _) (st_goto (off := -25) (by decide) (by decide +kernel)))))))))))))
theorem xb65_6 (hC : z_HC l G d z_tb C) : z_SB "QuotaPeers" prog_1_method_66_code 3 false d G l C ((Option.none : Option Jvm.ClassFile.FieldType)) xp65 56 xB65_6.1 xB65_6.2 := sb_cons (n := 1) hC.1 (tz_ldA _) (so_aload_n 0 (by decide +kernel)) (sb_cons (n := 3) hC.1 (tz_gR _ _) (xg_0_11 w440 (by decide +kernel)) (sb_cons (n := 1) hC.1 (tz_ldA _) (so_aload_n 0 (by decide +kernel)) (sb_cons (n := 3) hC.1 (tz_gI _ _) (xg_0_12 w441 (by decide +kernel)) (sb_cons (n := 1) hC.1 (tz_ldA _) (so_aload_n 1 (by decide +kernel)) (sb_cons (n := 1) hC.1 (tz_astR) (so_aastore (by decide +kernel)) (sb_nil (tz_vret) (st_vret rfl (by decide +kernel))))))))
theorem xm65 (hC : z_HC l G d z_tb C) : z_SM "QuotaPeers" prog_1_method_66_code 3 false d G l C ((Option.none : Option Jvm.ClassFile.FieldType)) xp65 xP65 := by
  intro b
  match b with
  | 0 => exact xb65_0 hC
  | 1 => exact xb65_1 hC
  | 2 => exact xb65_2 hC
  | 3 => exact xb65_3 hC
  | 4 => exact xb65_4 hC
  | 5 => exact xb65_5 hC
  | 6 => exact xb65_6 hC
  | _ + 7 => exact sb_dead
end
/-! QuotaPeers.ends(LQuotaPeers$Message;)I -/
def xB66_0 : List z_Op × z_Tm := ([zo_ldA 0, zo_ldA 1, zo_crV 58 1 0, zo_stA 2, zo_ldA 2], zt_null 1 [false, false, false] 2 [true, true, true])
def xB66_1 : List z_Op × z_Tm := ([zo_cI (5002)], zt_iret)
def xB66_2 : List z_Op × z_Tm := ([zo_ldA 1, zo_cI (415), zo_crV 207 1 3, zo_ldA 2, zo_gJ 5 5, zo_lcmp], zt_if (fun x => 0 < x) 4 [true, true, true] 3 [false, false, false])
def xB66_3 : List z_Op × z_Tm := ([zo_cI (5012)], zt_iret)
def xB66_4 : List z_Op × z_Tm := ([zo_ldA 2, zo_ldA 1, zo_crS 63 1, zo_cvV 236 1 5, zo_ldA 0, zo_ldA 2, zo_cvV 65 1 0, zo_cI (2001)], zt_iret)
def xp66 : Nat → Nat := fun b => ([0, 10, 14, 29, 33] : List Nat).getD b 0
def xP66 : z_M := fun b => ([xB66_0, xB66_1, xB66_2, xB66_3, xB66_4] : List (List z_Op × z_Tm)).getD b z_dead
section
variable {d : Nat} {G : z_G} {l : Launch} {C : z_O}
theorem xb66_0 (hC : z_HC l G d z_tb C) : z_SB "QuotaPeers" prog_1_method_67_code 3 false d G l C ((Option.some Jvm.ClassFile.FieldType.int)) xp66 0 xB66_0.1 xB66_0.2 := sb_cons (n := 1) hC.1 (tz_ldA _) (so_aload_n 0 (by decide +kernel)) (sb_cons (n := 1) hC.1 (tz_ldA _) (so_aload_n 1 (by decide +kernel)) (sb_cons (n := 3) hC.1 (tz_crV _ _ _) (xc_58 hC w969 (by decide +kernel)) (sb_cons (n := 1) hC.1 (tz_stA _) (so_astore_n 2 (by decide) (by decide +kernel)) (sb_cons (n := 1) hC.1 (tz_ldA _) (so_aload_n 2 (by decide +kernel)) (sb_nil (tz_nul _ _ _ _) (st_ifnonnull (off := 7) (by decide) (by decide) (by decide +kernel)))))))
theorem xb66_1 (hC : z_HC l G d z_tb C) : z_SB "QuotaPeers" prog_1_method_67_code 3 false d G l C ((Option.some Jvm.ClassFile.FieldType.int)) xp66 10 xB66_1.1 xB66_1.2 := sb_cons (n := 3) hC.1 (tz_cI _) (so_sipush (5002) (5002) (by decide +kernel) (by decide +kernel)) (sb_nil (tz_iret) (st_iret rfl (by decide +kernel)))
theorem xb66_2 (hC : z_HC l G d z_tb C) : z_SB "QuotaPeers" prog_1_method_67_code 3 false d G l C ((Option.some Jvm.ClassFile.FieldType.int)) xp66 14 xB66_2.1 xB66_2.2 := sb_cons (n := 1) hC.1 (tz_ldA _) (so_aload_n 1 (by decide +kernel)) (sb_cons (n := 3) hC.1 (tz_cI _) (so_sipush (415) (415) (by decide +kernel) (by decide +kernel)) (sb_cons (n := 3) hC.1 (tz_crV _ _ _) (xc_207 hC w901 (by decide +kernel)) (sb_cons (n := 1) hC.1 (tz_ldA _) (so_aload_n 2 (by decide +kernel)) (sb_cons (n := 3) hC.1 (tz_gJ _ _) (xgN_5_5 w349 (by decide +kernel)) (sb_cons (n := 1) hC.1 (tz_lcmp) (so_lcmp (by decide +kernel)) (sb_nil (tz_if _ _ _ _ _) (st_if_gt (off := 7) (by decide) (by decide) (by decide +kernel))))))))
theorem xb66_3 (hC : z_HC l G d z_tb C) : z_SB "QuotaPeers" prog_1_method_67_code 3 false d G l C ((Option.some Jvm.ClassFile.FieldType.int)) xp66 29 xB66_3.1 xB66_3.2 := sb_cons (n := 3) hC.1 (tz_cI _) (so_sipush (5012) (5012) (by decide +kernel) (by decide +kernel)) (sb_nil (tz_iret) (st_iret rfl (by decide +kernel)))
theorem xb66_4 (hC : z_HC l G d z_tb C) : z_SB "QuotaPeers" prog_1_method_67_code 3 false d G l C ((Option.some Jvm.ClassFile.FieldType.int)) xp66 33 xB66_4.1 xB66_4.2 := sb_cons (n := 1) hC.1 (tz_ldA _) (so_aload_n 2 (by decide +kernel)) (sb_cons (n := 1) hC.1 (tz_ldA _) (so_aload_n 1 (by decide +kernel)) (sb_cons (n := 3) hC.1 (tz_crS _ _) (xc_63 hC w1007 (by decide +kernel)) (sb_cons (n := 3) hC.1 (tz_cvV _ _ _) (xc_236 hC w1010 (by decide +kernel)) (sb_cons (n := 1) hC.1 (tz_ldA _) (so_aload_n 0 (by decide +kernel)) (sb_cons (n := 1) hC.1 (tz_ldA _) (so_aload_n 2 (by decide +kernel)) (sb_cons (n := 3) hC.1 (tz_cvV _ _ _) (xc_65 hC w1022 (by decide +kernel)) (sb_cons (n := 3) hC.1 (tz_cI _) (so_sipush (2001) (2001) (by decide +kernel) (by decide +kernel)) (sb_nil (tz_iret) (st_iret rfl (by decide +kernel))))))))))
theorem xm66 (hC : z_HC l G d z_tb C) : z_SM "QuotaPeers" prog_1_method_67_code 3 false d G l C ((Option.some Jvm.ClassFile.FieldType.int)) xp66 xP66 := by
  intro b
  match b with
  | 0 => exact xb66_0 hC
  | 1 => exact xb66_1 hC
  | 2 => exact xb66_2 hC
  | 3 => exact xb66_3 hC
  | 4 => exact xb66_4 hC
  | _ + 5 => exact sb_dead
end
/-! QuotaPeers.event(LQuotaPeers$Message;I)I -/
def xB67_0 : List z_Op × z_Tm := ([zo_ldA 0, zo_ldA 1, zo_crV 57 1 0, zo_stA 3, zo_ldA 3], zt_null 1 [false, false, false, false, false, false] 2 [true, true, true, true, false, false])
def xB67_1 : List z_Op × z_Tm := ([zo_cI (5030)], zt_iret)
def xB67_2 : List z_Op × z_Tm := ([zo_cJ (0), zo_ldA 1, zo_cI (437), zo_crS 54 2, zo_maxJ, zo_stJ 4, zo_ldI 2], zt_if (fun x => x = 0) 3 [true, false, true, true, true, false] 5 [true, false, true, true, true, false])
def xB67_3 : List z_Op × z_Tm := ([zo_ldJ 4, zo_ldA 3, zo_crV 187 0 10, zo_lcmp], zt_if (fun x => x ≤ 0) 5 [true, false, true, true, true, false] 4 [false, false, false, false, false, false])
def xB67_4 : List z_Op × z_Tm := ([zo_cI (4012)], zt_iret)
def xB67_5 : List z_Op × z_Tm := ([zo_ldI 2, zo_cI (1)], zt_icmp (fun x y => x = y) 6 [true, false, true, true, true, false] 8 [true, false, true, true, true, false])
def xB67_6 : List z_Op × z_Tm := ([zo_ldJ 4, zo_cJ (1152921504606846976), zo_ldA 3, zo_gJ 10 1, zo_jj (· - ·), zo_lcmp], zt_if (fun x => x ≤ 0) 8 [true, false, true, true, true, false] 7 [false, false, false, false, false, false])
def xB67_7 : List z_Op × z_Tm := ([zo_cI (5012)], zt_iret)
def xB67_8 : List z_Op × z_Tm := ([zo_ldI 2, zo_cI (2)], zt_icmp (fun x y => x = y) 9 [true, false, false, true, true, false] 13 [false, false, true, true, true, false])
def xB67_9 : List z_Op × z_Tm := ([zo_ldA 0, zo_ldJ 4, zo_ldA 3, zo_crV 187 0 10, zo_lcmp], zt_if (fun x => x ≤ 0) 11 [false, false, false, false, false, false] 10 [false, false, false, false, false, false])
def xB67_10 : List z_Op × z_Tm := ([zo_cI (1)], zt_goto 12 [false, false, false, false, false, false])
def xB67_11 : List z_Op × z_Tm := ([zo_cI (0)], zt_goto 12 [false, false, false, false, false, false])
def xB67_12 : List z_Op × z_Tm := ([zo_pI 0 21], zt_goto 17 [false, false, false, false, false, false])
def xB67_13 : List z_Op × z_Tm := ([zo_ldA 3, zo_ldI 2], zt_if (fun x => x = 0) 14 [false, false, false, false, true, false] 15 [false, false, false, false, true, false])
def xB67_14 : List z_Op × z_Tm := ([zo_ldJ 4], zt_goto 16 [false, false, false, false, false, false])
def xB67_15 : List z_Op × z_Tm := ([zo_ldJ 4, zo_lneg], zt_goto 16 [false, false, false, false, false, false])
def xB67_16 : List z_Op × z_Tm := ([zo_cvV 188 1 10], zt_goto 17 [false, false, false, false, false, false])
def xB67_17 : List z_Op × z_Tm := ([zo_cI (2001)], zt_iret)
def xp67 : Nat → Nat := fun b => ([0, 10, 14, 31, 41, 45, 50, 64, 68, 73, 84, 88, 89, 95, 100, 105, 108, 111] : List Nat).getD b 0
def xP67 : z_M := fun b => ([xB67_0, xB67_1, xB67_2, xB67_3, xB67_4, xB67_5, xB67_6, xB67_7, xB67_8, xB67_9, xB67_10, xB67_11, xB67_12, xB67_13, xB67_14, xB67_15, xB67_16, xB67_17] : List (List z_Op × z_Tm)).getD b z_dead
section
variable {d : Nat} {G : z_G} {l : Launch} {C : z_O}
theorem xb67_0 (hC : z_HC l G d z_tb C) : z_SB "QuotaPeers" prog_1_method_68_code 6 false d G l C ((Option.some Jvm.ClassFile.FieldType.int)) xp67 0 xB67_0.1 xB67_0.2 := sb_cons (n := 1) hC.1 (tz_ldA _) (so_aload_n 0 (by decide +kernel)) (sb_cons (n := 1) hC.1 (tz_ldA _) (so_aload_n 1 (by decide +kernel)) (sb_cons (n := 3) hC.1 (tz_crV _ _ _) (xc_57 hC w959 (by decide +kernel)) (sb_cons (n := 1) hC.1 (tz_stA _) (so_astore_n 3 (by decide) (by decide +kernel)) (sb_cons (n := 1) hC.1 (tz_ldA _) (so_aload_n 3 (by decide +kernel)) (sb_nil (tz_nul _ _ _ _) (st_ifnonnull (off := 7) (by decide) (by decide) (by decide +kernel)))))))
theorem xb67_1 (hC : z_HC l G d z_tb C) : z_SB "QuotaPeers" prog_1_method_68_code 6 false d G l C ((Option.some Jvm.ClassFile.FieldType.int)) xp67 10 xB67_1.1 xB67_1.2 := sb_cons (n := 3) hC.1 (tz_cI _) (so_sipush (5030) (5030) (by decide +kernel) (by decide +kernel)) (sb_nil (tz_iret) (st_iret rfl (by decide +kernel)))
theorem xb67_2 (hC : z_HC l G d z_tb C) : z_SB "QuotaPeers" prog_1_method_68_code 6 false d G l C ((Option.some Jvm.ClassFile.FieldType.int)) xp67 14 xB67_2.1 xB67_2.2 := sb_cons (n := 1) hC.1 (tz_cJ _) (so_lconst 0 (0) (by decide +kernel) (by decide +kernel)) (sb_cons (n := 1) hC.1 (tz_ldA _) (so_aload_n 1 (by decide +kernel)) (sb_cons (n := 3) hC.1 (tz_cI _) (so_sipush (437) (437) (by decide +kernel) (by decide +kernel)) (sb_cons (n := 3) hC.1 (tz_crS _ _) (xc_54 hC w992 (by decide +kernel)) (sb_cons (n := 3) hC.1 (tz_maxJ) (xm_max w918 (by decide +kernel)) (sb_cons (n := 2) hC.1 (tz_stJ _) (so_lstore 4 (by decide) (by decide +kernel)) (sb_cons (n := 1) hC.1 (tz_ldI _) (so_iload_n 2 (by decide +kernel)) (sb_nil (tz_if _ _ _ _ _) (st_if_ne (off := 17) (by decide) (by decide) (by decide +kernel)))))))))
theorem xb67_3 (hC : z_HC l G d z_tb C) : z_SB "QuotaPeers" prog_1_method_68_code 6 false d G l C ((Option.some Jvm.ClassFile.FieldType.int)) xp67 31 xB67_3.1 xB67_3.2 := sb_cons (n := 2) hC.1 (tz_ldJ _) (so_lload 4 (by decide +kernel)) (sb_cons (n := 1) hC.1 (tz_ldA _) (so_aload_n 3 (by decide +kernel)) (sb_cons (n := 3) hC.1 (tz_crV _ _ _) (xc_187 hC w973 (by decide +kernel)) (sb_cons (n := 1) hC.1 (tz_lcmp) (so_lcmp (by decide +kernel)) (sb_nil (tz_if _ _ _ _ _) (st_if_le (off := 7) (by decide) (by decide) (by decide +kernel))))))
theorem xb67_4 (hC : z_HC l G d z_tb C) : z_SB "QuotaPeers" prog_1_method_68_code 6 false d G l C ((Option.some Jvm.ClassFile.FieldType.int)) xp67 41 xB67_4.1 xB67_4.2 := sb_cons (n := 3) hC.1 (tz_cI _) (so_sipush (4012) (4012) (by decide +kernel) (by decide +kernel)) (sb_nil (tz_iret) (st_iret rfl (by decide +kernel)))
theorem xb67_5 (hC : z_HC l G d z_tb C) : z_SB "QuotaPeers" prog_1_method_68_code 6 false d G l C ((Option.some Jvm.ClassFile.FieldType.int)) xp67 45 xB67_5.1 xB67_5.2 := sb_cons (n := 1) hC.1 (tz_ldI _) (so_iload_n 2 (by decide +kernel)) (sb_cons (n := 1) hC.1 (tz_cI _) (so_iconst (1) (1) (by decide +kernel) (by decide +kernel)) (sb_nil (tz_icmp _ _ _ _ _) (st_icmp_ne (off := 21) (by decide) (by decide) (by decide +kernel))))
theorem xb67_6 (hC : z_HC l G d z_tb C) : z_SB "QuotaPeers" prog_1_method_68_code 6 false d G l C ((Option.some Jvm.ClassFile.FieldType.int)) xp67 50 xB67_6.1 xB67_6.2 := sb_cons (n := 2) hC.1 (tz_ldJ _) (so_lload 4 (by decide +kernel)) (sb_cons (n := 3) hC.1 (tz_cJ _) (so_ldc2 538 (1152921504606846976) w954 (by decide +kernel)) (sb_cons (n := 1) hC.1 (tz_ldA _) (so_aload_n 3 (by decide +kernel)) (sb_cons (n := 3) hC.1 (tz_gJ _ _) (xgN_10_1 w1101 (by decide +kernel)) (sb_cons (n := 1) hC.1 (tz_jj _) (so_lsub (by decide +kernel)) (sb_cons (n := 1) hC.1 (tz_lcmp) (so_lcmp (by decide +kernel)) (sb_nil (tz_if _ _ _ _ _) (st_if_le (off := 7) (by decide) (by decide) (by decide +kernel))))))))
theorem xb67_7 (hC : z_HC l G d z_tb C) : z_SB "QuotaPeers" prog_1_method_68_code 6 false d G l C ((Option.some Jvm.ClassFile.FieldType.int)) xp67 64 xB67_7.1 xB67_7.2 := sb_cons (n := 3) hC.1 (tz_cI _) (so_sipush (5012) (5012) (by decide +kernel) (by decide +kernel)) (sb_nil (tz_iret) (st_iret rfl (by decide +kernel)))
theorem xb67_8 (hC : z_HC l G d z_tb C) : z_SB "QuotaPeers" prog_1_method_68_code 6 false d G l C ((Option.some Jvm.ClassFile.FieldType.int)) xp67 68 xB67_8.1 xB67_8.2 := sb_cons (n := 1) hC.1 (tz_ldI _) (so_iload_n 2 (by decide +kernel)) (sb_cons (n := 1) hC.1 (tz_cI _) (so_iconst (2) (2) (by decide +kernel) (by decide +kernel)) (sb_nil (tz_icmp _ _ _ _ _) (st_icmp_ne (off := 25) (by decide) (by decide) (by decide +kernel))))
theorem xb67_9 (hC : z_HC l G d z_tb C) : z_SB "QuotaPeers" prog_1_method_68_code 6 false d G l C ((Option.some Jvm.ClassFile.FieldType.int)) xp67 73 xB67_9.1 xB67_9.2 := sb_cons (n := 1) hC.1 (tz_ldA _) (so_aload_n 0 (by decide +kernel)) (sb_cons (n := 2) hC.1 (tz_ldJ _) (so_lload 4 (by decide +kernel)) (sb_cons (n := 1) hC.1 (tz_ldA _) (so_aload_n 3 (by decide +kernel)) (sb_cons (n := 3) hC.1 (tz_crV _ _ _) (xc_187 hC w973 (by decide +kernel)) (sb_cons (n := 1) hC.1 (tz_lcmp) (so_lcmp (by decide +kernel)) (sb_nil (tz_if _ _ _ _ _) (st_if_le (off := 7) (by decide) (by decide) (by decide +kernel)))))))
theorem xb67_10 (hC : z_HC l G d z_tb C) : z_SB "QuotaPeers" prog_1_method_68_code 6 false d G l C ((Option.some Jvm.ClassFile.FieldType.int)) xp67 84 xB67_10.1 xB67_10.2 := sb_cons (n := 1) hC.1 (tz_cI _) (so_iconst (1) (1) (by decide +kernel) (by decide +kernel)) (sb_nil (tz_goto _ _) (st_goto (off := 4) (by decide) (by decide +kernel)))
theorem xb67_11 (hC : z_HC l G d z_tb C) : z_SB "QuotaPeers" prog_1_method_68_code 6 false d G l C ((Option.some Jvm.ClassFile.FieldType.int)) xp67 88 xB67_11.1 xB67_11.2 := sb_cons (n := 1) hC.1 (tz_cI _) (so_iconst (0) (0) (by decide +kernel) (by decide +kernel)) (sb_nil (tz_goto _ _) (st_fall (by decide)))
theorem xb67_12 (hC : z_HC l G d z_tb C) : z_SB "QuotaPeers" prog_1_method_68_code 6 false d G l C ((Option.some Jvm.ClassFile.FieldType.int)) xp67 89 xB67_12.1 xB67_12.2 := sb_cons (n := 3) hC.1 (tz_pI _ _) (xp_0_21 w450 (by decide +kernel)) (sb_nil (tz_goto _ _) (st_goto (off := 19) (by decide) (by decide +kernel)))
theorem xb67_13 (hC : z_HC l G d z_tb C) : z_SB "QuotaPeers" prog_1_method_68_code 6 false d G l C ((Option.some Jvm.ClassFile.FieldType.int)) xp67 95 xB67_13.1 xB67_13.2 := sb_cons (n := 1) hC.1 (tz_ldA _) (so_aload_n 3 (by decide +kernel)) (sb_cons (n := 1) hC.1 (tz_ldI _) (so_iload_n 2 (by decide +kernel)) (sb_nil (tz_if _ _ _ _ _) (st_if_ne (off := 8) (by decide) (by decide) (by decide +kernel))))
theorem xb67_14 (hC : z_HC l G d z_tb C) : z_SB "QuotaPeers" prog_1_method_68_code 6 false d G l C ((Option.some Jvm.ClassFile.FieldType.int)) xp67 100 xB67_14.1 xB67_14.2 := sb_cons (n := 2) hC.1 (tz_ldJ _) (so_lload 4 (by decide +kernel)) (sb_nil (tz_goto _ _) (st_goto (off := 6) (by decide) (by decide +kernel)))
theorem xb67_15 (hC : z_HC l G d z_tb C) : z_SB "QuotaPeers" prog_1_method_68_code 6 false d G l C ((Option.some Jvm.ClassFile.FieldType.int)) xp67 105 xB67_15.1 xB67_15.2 := sb_cons (n := 2) hC.1 (tz_ldJ _) (so_lload 4 (by decide +kernel)) (sb_cons (n := 1) hC.1 (tz_lneg) (so_lneg (by decide +kernel)) (sb_nil (tz_goto _ _) (st_fall (by decide))))
theorem xb67_16 (hC : z_HC l G d z_tb C) : z_SB "QuotaPeers" prog_1_method_68_code 6 false d G l C ((Option.some Jvm.ClassFile.FieldType.int)) xp67 108 xB67_16.1 xB67_16.2 := sb_cons (n := 3) hC.1 (tz_cvV _ _ _) (xc_188 hC w1030 (by decide +kernel)) (sb_nil (tz_goto _ _) (st_fall (by decide)))
theorem xb67_17 (hC : z_HC l G d z_tb C) : z_SB "QuotaPeers" prog_1_method_68_code 6 false d G l C ((Option.some Jvm.ClassFile.FieldType.int)) xp67 111 xB67_17.1 xB67_17.2 := sb_cons (n := 3) hC.1 (tz_cI _) (so_sipush (2001) (2001) (by decide +kernel) (by decide +kernel)) (sb_nil (tz_iret) (st_iret rfl (by decide +kernel)))
theorem xm67 (hC : z_HC l G d z_tb C) : z_SM "QuotaPeers" prog_1_method_68_code 6 false d G l C ((Option.some Jvm.ClassFile.FieldType.int)) xp67 xP67 := by
  intro b
  match b with
  | 0 => exact xb67_0 hC
  | 1 => exact xb67_1 hC
  | 2 => exact xb67_2 hC
  | 3 => exact xb67_3 hC
  | 4 => exact xb67_4 hC
  | 5 => exact xb67_5 hC
  | 6 => exact xb67_6 hC
  | 7 => exact xb67_7 hC
  | 8 => exact xb67_8 hC
  | 9 => exact xb67_9 hC
  | 10 => exact xb67_10 hC
  | 11 => exact xb67_11 hC
  | 12 => exact xb67_12 hC
  | 13 => exact xb67_13 hC
  | 14 => exact xb67_14 hC
  | 15 => exact xb67_15 hC
  | 16 => exact xb67_16 hC
  | 17 => exact xb67_17 hC
  | _ + 18 => exact sb_dead
end
/-! QuotaPeers.peersAt()I -/
def xB68_0 : List z_Op × z_Tm := ([zo_cI (0), zo_stI 1, zo_cI (0), zo_stI 2], zt_goto 1 [true, true, true, false])
def xB68_1 : List z_Op × z_Tm := ([zo_ldI 2, zo_ldA 0, zo_gI 0 8], zt_icmp (fun x y => y ≤ x) 8 [false, true, false, false] 2 [true, true, true, false])
def xB68_2 : List z_Op × z_Tm := ([zo_ldA 0, zo_gR 0 7, zo_ldI 2, zo_aldR, zo_stA 3, zo_ldA 3, zo_crV 233 0 9], zt_if (fun x => x = 0) 5 [true, true, true, true] 3 [true, true, true, true])
def xB68_3 : List z_Op × z_Tm := ([zo_ldA 3, zo_gI 9 4, zo_ldA 0, zo_gI 0 17], zt_icmp (fun x y => x = y) 4 [true, true, true, true] 5 [true, true, true, true])
def xB68_4 : List z_Op × z_Tm := ([zo_ldA 0, zo_ldA 3, zo_cvV 25 1 0, zo_inc 1 (1)], zt_goto 5 [true, true, true, true])
def xB68_5 : List z_Op × z_Tm := ([zo_ldA 3, zo_gI 9 12, zo_ldA 0, zo_gI 0 17], zt_icmp (fun x y => x = y) 6 [true, true, true, true] 7 [true, true, true, false])
def xB68_6 : List z_Op × z_Tm := ([zo_ldA 0, zo_ldA 3, zo_cvV 42 1 0, zo_inc 1 (1)], zt_goto 7 [true, true, true, false])
def xB68_7 : List z_Op × z_Tm := ([zo_inc 2 (1)], zt_goto 1 [true, true, true, false])
def xB68_8 : List z_Op × z_Tm := ([zo_ldI 1], zt_iret)
def xp68 : Nat → Nat := fun b => ([0, 4, 12, 26, 37, 45, 56, 64, 70] : List Nat).getD b 0
def xP68 : z_M := fun b => ([xB68_0, xB68_1, xB68_2, xB68_3, xB68_4, xB68_5, xB68_6, xB68_7, xB68_8] : List (List z_Op × z_Tm)).getD b z_dead
section
variable {d : Nat} {G : z_G} {l : Launch} {C : z_O}
theorem xb68_0 (hC : z_HC l G d z_tb C) : z_SB "QuotaPeers" prog_1_method_69_code 4 false d G l C ((Option.some Jvm.ClassFile.FieldType.int)) xp68 0 xB68_0.1 xB68_0.2 := sb_cons (n := 1) hC.1 (tz_cI _) (so_iconst (0) (0) (by decide +kernel) (by decide +kernel)) (sb_cons (n := 1) hC.1 (tz_stI _) (so_istore_n 1 (by decide) (by decide +kernel)) (sb_cons (n := 1) hC.1 (tz_cI _) (so_iconst (0) (0) (by decide +kernel) (by decide +kernel)) (sb_cons (n := 1) hC.1 (tz_stI _) (so_istore_n 2 (by decide) (by decide +kernel)) (sb_nil (tz_goto _ _) (st_fall (by decide))))))
theorem xb68_1 (hC : z_HC l G d z_tb C) : z_SB "QuotaPeers" prog_1_method_69_code 4 false d G l C ((Option.some Jvm.ClassFile.FieldType.int)) xp68 4 xB68_1.1 xB68_1.2 := sb_cons (n := 1) hC.1 (tz_ldI _) (so_iload_n 2 (by decide +kernel)) (sb_cons (n := 1) hC.1 (tz_ldA _) (so_aload_n 0 (by decide +kernel)) (sb_cons (n := 3) hC.1 (tz_gI _ _) (xg_0_8 w437 (by decide +kernel)) (sb_nil (tz_icmp _ _ _ _ _) (st_icmp_ge (off := 61) (by decide) (by decide) (by decide +kernel)))))
theorem xb68_2 (hC : z_HC l G d z_tb C) : z_SB "QuotaPeers" prog_1_method_69_code 4 false d G l C ((Option.some Jvm.ClassFile.FieldType.int)) xp68 12 xB68_2.1 xB68_2.2 := sb_cons (n := 1) hC.1 (tz_ldA _) (so_aload_n 0 (by decide +kernel)) (sb_cons (n := 3) hC.1 (tz_gR _ _) (xg_0_7 w436 (by decide +kernel)) (sb_cons (n := 1) hC.1 (tz_ldI _) (so_iload_n 2 (by decide +kernel)) (sb_cons (n := 1) hC.1 (tz_aldR) (so_aaload (by decide +kernel)) (sb_cons (n := 1) hC.1 (tz_stA _) (so_astore_n 3 (by decide) (by decide +kernel)) (sb_cons (n := 1) hC.1 (tz_ldA _) (so_aload_n 3 (by decide +kernel)) (sb_cons (n := 3) hC.1 (tz_crV _ _ _) (xc_233 hC w1052 (by decide +kernel)) (sb_nil (tz_if _ _ _ _ _) (st_if_eq (off := 22) (by decide) (by decide) (by decide +kernel)))))))))
theorem xb68_3 (hC : z_HC l G d z_tb C) : z_SB "QuotaPeers" prog_1_method_69_code 4 false d G l C ((Option.some Jvm.ClassFile.FieldType.int)) xp68 26 xB68_3.1 xB68_3.2 := sb_cons (n := 1) hC.1 (tz_ldA _) (so_aload_n 3 (by decide +kernel)) (sb_cons (n := 3) hC.1 (tz_gI _ _) (xgN_9_4 w539 (by decide +kernel)) (sb_cons (n := 1) hC.1 (tz_ldA _) (so_aload_n 0 (by decide +kernel)) (sb_cons (n := 3) hC.1 (tz_gI _ _) (xg_0_17 w446 (by decide +kernel)) (sb_nil (tz_icmp _ _ _ _ _) (st_icmp_ne (off := 11) (by decide) (by decide) (by decide +kernel))))))
theorem xb68_4 (hC : z_HC l G d z_tb C) : z_SB "QuotaPeers" prog_1_method_69_code 4 false d G l C ((Option.some Jvm.ClassFile.FieldType.int)) xp68 37 xB68_4.1 xB68_4.2 := sb_cons (n := 1) hC.1 (tz_ldA _) (so_aload_n 0 (by decide +kernel)) (sb_cons (n := 1) hC.1 (tz_ldA _) (so_aload_n 3 (by decide +kernel)) (sb_cons (n := 3) hC.1 (tz_cvV _ _ _) (xc_25 hC w763 (by decide +kernel)) (sb_cons (n := 3) hC.1 (tz_inc _ _) (so_iinc 1 (1) (1) (by decide +kernel) (by decide) (by decide +kernel)) (sb_nil (tz_goto _ _) (st_fall (by decide))))))
theorem xb68_5 (hC : z_HC l G d z_tb C) : z_SB "QuotaPeers" prog_1_method_69_code 4 false d G l C ((Option.some Jvm.ClassFile.FieldType.int)) xp68 45 xB68_5.1 xB68_5.2 := sb_cons (n := 1) hC.1 (tz_ldA _) (so_aload_n 3 (by decide +kernel)) (sb_cons (n := 3) hC.1 (tz_gI _ _) (xgN_9_12 w551 (by decide +kernel)) (sb_cons (n := 1) hC.1 (tz_ldA _) (so_aload_n 0 (by decide +kernel)) (sb_cons (n := 3) hC.1 (tz_gI _ _) (xg_0_17 w446 (by decide +kernel)) (sb_nil (tz_icmp _ _ _ _ _) (st_icmp_ne (off := 11) (by decide) (by decide) (by decide +kernel))))))
theorem xb68_6 (hC : z_HC l G d z_tb C) : z_SB "QuotaPeers" prog_1_method_69_code 4 false d G l C ((Option.some Jvm.ClassFile.FieldType.int)) xp68 56 xB68_6.1 xB68_6.2 := sb_cons (n := 1) hC.1 (tz_ldA _) (so_aload_n 0 (by decide +kernel)) (sb_cons (n := 1) hC.1 (tz_ldA _) (so_aload_n 3 (by decide +kernel)) (sb_cons (n := 3) hC.1 (tz_cvV _ _ _) (xc_42 hC w1056 (by decide +kernel)) (sb_cons (n := 3) hC.1 (tz_inc _ _) (so_iinc 1 (1) (1) (by decide +kernel) (by decide) (by decide +kernel)) (sb_nil (tz_goto _ _) (st_fall (by decide))))))
theorem xb68_7 (hC : z_HC l G d z_tb C) : z_SB "QuotaPeers" prog_1_method_69_code 4 false d G l C ((Option.some Jvm.ClassFile.FieldType.int)) xp68 64 xB68_7.1 xB68_7.2 := sb_cons (n := 3) hC.1 (tz_inc _ _) (so_iinc 2 (1) (1) (by decide +kernel) (by decide) (by decide +kernel)) (sb_nil (tz_goto _ _) (st_goto (off := -63) (by decide) (by decide +kernel)))
theorem xb68_8 (hC : z_HC l G d z_tb C) : z_SB "QuotaPeers" prog_1_method_69_code 4 false d G l C ((Option.some Jvm.ClassFile.FieldType.int)) xp68 70 xB68_8.1 xB68_8.2 := sb_cons (n := 1) hC.1 (tz_ldI _) (so_iload_n 1 (by decide +kernel)) (sb_nil (tz_iret) (st_iret rfl (by decide +kernel)))
theorem xm68 (hC : z_HC l G d z_tb C) : z_SM "QuotaPeers" prog_1_method_69_code 4 false d G l C ((Option.some Jvm.ClassFile.FieldType.int)) xp68 xP68 := by
  intro b
  match b with
  | 0 => exact xb68_0 hC
  | 1 => exact xb68_1 hC
  | 2 => exact xb68_2 hC
  | 3 => exact xb68_3 hC
  | 4 => exact xb68_4 hC
  | 5 => exact xb68_5 hC
  | 6 => exact xb68_6 hC
  | 7 => exact xb68_7 hC
  | 8 => exact xb68_8 hC
  | _ + 9 => exact sb_dead
end
/-! QuotaPeers.sessionsAt()I -/
def xB69_0 : List z_Op × z_Tm := ([zo_cI (0), zo_stI 1, zo_cI (0), zo_stI 2], zt_goto 1 [true, true, true, false])
def xB69_1 : List z_Op × z_Tm := ([zo_ldI 2, zo_ldA 0, zo_gI 0 12], zt_icmp (fun x y => y ≤ x) 5 [false, true, false, false] 2 [true, true, true, false])
def xB69_2 : List z_Op × z_Tm := ([zo_ldA 0, zo_gR 0 11, zo_ldI 2, zo_aldR, zo_stA 3, zo_ldA 3, zo_gI 5 7, zo_ldA 0, zo_gI 0 17], zt_icmp (fun x y => x = y) 4 [true, true, true, true] 3 [true, true, true, false])
def xB69_3 : List z_Op × z_Tm := ([zo_inc 2 (1)], zt_goto 1 [true, true, true, false])
def xB69_4 : List z_Op × z_Tm := ([zo_ldA 3, zo_cJ (0), zo_cvV 236 1 5, zo_ldA 0, zo_ldA 3, zo_cvV 65 1 0, zo_inc 1 (1)], zt_goto 1 [true, true, true, false])
def xB69_5 : List z_Op × z_Tm := ([zo_ldI 1], zt_iret)
def xp69 : Nat → Nat := fun b => ([0, 4, 12, 30, 36, 52] : List Nat).getD b 0
def xP69 : z_M := fun b => ([xB69_0, xB69_1, xB69_2, xB69_3, xB69_4, xB69_5] : List (List z_Op × z_Tm)).getD b z_dead
section
variable {d : Nat} {G : z_G} {l : Launch} {C : z_O}
theorem xb69_0 (hC : z_HC l G d z_tb C) : z_SB "QuotaPeers" prog_1_method_70_code 4 false d G l C ((Option.some Jvm.ClassFile.FieldType.int)) xp69 0 xB69_0.1 xB69_0.2 := sb_cons (n := 1) hC.1 (tz_cI _) (so_iconst (0) (0) (by decide +kernel) (by decide +kernel)) (sb_cons (n := 1) hC.1 (tz_stI _) (so_istore_n 1 (by decide) (by decide +kernel)) (sb_cons (n := 1) hC.1 (tz_cI _) (so_iconst (0) (0) (by decide +kernel) (by decide +kernel)) (sb_cons (n := 1) hC.1 (tz_stI _) (so_istore_n 2 (by decide) (by decide +kernel)) (sb_nil (tz_goto _ _) (st_fall (by decide))))))
theorem xb69_1 (hC : z_HC l G d z_tb C) : z_SB "QuotaPeers" prog_1_method_70_code 4 false d G l C ((Option.some Jvm.ClassFile.FieldType.int)) xp69 4 xB69_1.1 xB69_1.2 := sb_cons (n := 1) hC.1 (tz_ldI _) (so_iload_n 2 (by decide +kernel)) (sb_cons (n := 1) hC.1 (tz_ldA _) (so_aload_n 0 (by decide +kernel)) (sb_cons (n := 3) hC.1 (tz_gI _ _) (xg_0_12 w441 (by decide +kernel)) (sb_nil (tz_icmp _ _ _ _ _) (st_icmp_ge (off := 43) (by decide) (by decide) (by decide +kernel)))))
theorem xb69_2 (hC : z_HC l G d z_tb C) : z_SB "QuotaPeers" prog_1_method_70_code 4 false d G l C ((Option.some Jvm.ClassFile.FieldType.int)) xp69 12 xB69_2.1 xB69_2.2 := sb_cons (n := 1) hC.1 (tz_ldA _) (so_aload_n 0 (by decide +kernel)) (sb_cons (n := 3) hC.1 (tz_gR _ _) (xg_0_11 w440 (by decide +kernel)) (sb_cons (n := 1) hC.1 (tz_ldI _) (so_iload_n 2 (by decide +kernel)) (sb_cons (n := 1) hC.1 (tz_aldR) (so_aaload (by decide +kernel)) (sb_cons (n := 1) hC.1 (tz_stA _) (so_astore_n 3 (by decide) (by decide +kernel)) (sb_cons (n := 1) hC.1 (tz_ldA _) (so_aload_n 3 (by decide +kernel)) (sb_cons (n := 3) hC.1 (tz_gI _ _) (xgN_5_7 w351 (by decide +kernel)) (sb_cons (n := 1) hC.1 (tz_ldA _) (so_aload_n 0 (by decide +kernel)) (sb_cons (n := 3) hC.1 (tz_gI _ _) (xg_0_17 w446 (by decide +kernel)) (sb_nil (tz_icmp _ _ _ _ _) (st_icmp_eq (off := 9) (by decide) (by decide) (by decide +kernel)))))))))))
theorem xb69_3 (hC : z_HC l G d z_tb C) : z_SB "QuotaPeers" prog_1_method_70_code 4 false d G l C ((Option.some Jvm.ClassFile.FieldType.int)) xp69 30 xB69_3.1 xB69_3.2 := sb_cons (n := 3) hC.1 (tz_inc _ _) (so_iinc 2 (1) (1) (by decide +kernel) (by decide) (by decide +kernel)) (sb_nil (tz_goto _ _) (st_goto (off := -29) (by decide) (by decide +kernel)))
theorem xb69_4 (hC : z_HC l G d z_tb C) : z_SB "QuotaPeers" prog_1_method_70_code 4 false d G l C ((Option.some Jvm.ClassFile.FieldType.int)) xp69 36 xB69_4.1 xB69_4.2 := sb_cons (n := 1) hC.1 (tz_ldA _) (so_aload_n 3 (by decide +kernel)) (sb_cons (n := 1) hC.1 (tz_cJ _) (so_lconst 0 (0) (by decide +kernel) (by decide +kernel)) (sb_cons (n := 3) hC.1 (tz_cvV _ _ _) (xc_236 hC w1010 (by decide +kernel)) (sb_cons (n := 1) hC.1 (tz_ldA _) (so_aload_n 0 (by decide +kernel)) (sb_cons (n := 1) hC.1 (tz_ldA _) (so_aload_n 3 (by decide +kernel)) (sb_cons (n := 3) hC.1 (tz_cvV _ _ _) (xc_65 hC w1022 (by decide +kernel)) (sb_cons (n := 3) hC.1 (tz_inc _ _) (so_iinc 1 (1) (1) (by decide +kernel) (by decide) (by decide +kernel)) (sb_nil (tz_goto _ _) (st_goto (off := -45) (by decide) (by decide +kernel)))))))))
theorem xb69_5 (hC : z_HC l G d z_tb C) : z_SB "QuotaPeers" prog_1_method_70_code 4 false d G l C ((Option.some Jvm.ClassFile.FieldType.int)) xp69 52 xB69_5.1 xB69_5.2 := sb_cons (n := 1) hC.1 (tz_ldI _) (so_iload_n 1 (by decide +kernel)) (sb_nil (tz_iret) (st_iret rfl (by decide +kernel)))
theorem xm69 (hC : z_HC l G d z_tb C) : z_SM "QuotaPeers" prog_1_method_70_code 4 false d G l C ((Option.some Jvm.ClassFile.FieldType.int)) xp69 xP69 := by
  intro b
  match b with
  | 0 => exact xb69_0 hC
  | 1 => exact xb69_1 hC
  | 2 => exact xb69_2 hC
  | 3 => exact xb69_3 hC
  | 4 => exact xb69_4 hC
  | 5 => exact xb69_5 hC
  | _ + 6 => exact sb_dead
end
/-! QuotaPeers.tick(I)I -/
def xB70_0 : List z_Op × z_Tm := ([zo_ldI 1, zo_ldA 0, zo_gI 0 17], zt_icmp (fun x y => x < y) 2 [false, false, false] 1 [true, true, false])
def xB70_1 : List z_Op × z_Tm := ([zo_ldI 1, zo_ldA 0, zo_gI 0 17, zo_ii ((· - ·)), zo_cI (2000)], zt_icmp (fun x y => x ≤ y) 3 [true, true, false] 2 [false, false, false])
def xB70_2 : List z_Op × z_Tm := ([zo_cI (-2)], zt_iret)
def xB70_3 : List z_Op × z_Tm := ([zo_cI (0), zo_stI 2], zt_goto 4 [true, true, true])
def xB70_4 : List z_Op × z_Tm := ([zo_ldA 0, zo_gI 0 17, zo_ldI 1], zt_icmp (fun x y => y ≤ x) 6 [false, false, true] 5 [true, true, true])
def xB70_5 : List z_Op × z_Tm := ([zo_ldA 0, zo_dupR, zo_gI 0 17, zo_cI (1), zo_ii ((· + ·)), zo_pI 0 17, zo_ldI 2, zo_ldA 0, zo_crV 68 0 0, zo_ldA 0, zo_crV 69 0 0, zo_ii ((· + ·)), zo_ii ((· + ·)), zo_stI 2], zt_goto 4 [true, true, true])
def xB70_6 : List z_Op × z_Tm := ([zo_ldI 2], zt_iret)
def xp70 : Nat → Nat := fun b => ([0, 8, 20, 23, 25, 33, 58] : List Nat).getD b 0
def xP70 : z_M := fun b => ([xB70_0, xB70_1, xB70_2, xB70_3, xB70_4, xB70_5, xB70_6] : List (List z_Op × z_Tm)).getD b z_dead
section
variable {d : Nat} {G : z_G} {l : Launch} {C : z_O}
theorem xb70_0 (hC : z_HC l G d z_tb C) : z_SB "QuotaPeers" prog_1_method_71_code 3 false d G l C ((Option.some Jvm.ClassFile.FieldType.int)) xp70 0 xB70_0.1 xB70_0.2 := sb_cons (n := 1) hC.1 (tz_ldI _) (so_iload_n 1 (by decide +kernel)) (sb_cons (n := 1) hC.1 (tz_ldA _) (so_aload_n 0 (by decide +kernel)) (sb_cons (n := 3) hC.1 (tz_gI _ _) (xg_0_17 w446 (by decide +kernel)) (sb_nil (tz_icmp _ _ _ _ _) (st_icmp_lt (off := 15) (by decide) (by decide) (by decide +kernel)))))
theorem xb70_1 (hC : z_HC l G d z_tb C) : z_SB "QuotaPeers" prog_1_method_71_code 3 false d G l C ((Option.some Jvm.ClassFile.FieldType.int)) xp70 8 xB70_1.1 xB70_1.2 := sb_cons (n := 1) hC.1 (tz_ldI _) (so_iload_n 1 (by decide +kernel)) (sb_cons (n := 1) hC.1 (tz_ldA _) (so_aload_n 0 (by decide +kernel)) (sb_cons (n := 3) hC.1 (tz_gI _ _) (xg_0_17 w446 (by decide +kernel)) (sb_cons (n := 1) hC.1 (tz_ii _) (so_isub (by decide +kernel)) (sb_cons (n := 3) hC.1 (tz_cI _) (so_sipush (2000) (2000) (by decide +kernel) (by decide +kernel)) (sb_nil (tz_icmp _ _ _ _ _) (st_icmp_le (off := 6) (by decide) (by decide) (by decide +kernel)))))))
theorem xb70_2 (hC : z_HC l G d z_tb C) : z_SB "QuotaPeers" prog_1_method_71_code 3 false d G l C ((Option.some Jvm.ClassFile.FieldType.int)) xp70 20 xB70_2.1 xB70_2.2 := sb_cons (n := 2) hC.1 (tz_cI _) (so_bipush (-2) (-2) (by decide +kernel) (by decide +kernel)) (sb_nil (tz_iret) (st_iret rfl (by decide +kernel)))
theorem xb70_3 (hC : z_HC l G d z_tb C) : z_SB "QuotaPeers" prog_1_method_71_code 3 false d G l C ((Option.some Jvm.ClassFile.FieldType.int)) xp70 23 xB70_3.1 xB70_3.2 := sb_cons (n := 1) hC.1 (tz_cI _) (so_iconst (0) (0) (by decide +kernel) (by decide +kernel)) (sb_cons (n := 1) hC.1 (tz_stI _) (so_istore_n 2 (by decide) (by decide +kernel)) (sb_nil (tz_goto _ _) (st_fall (by decide))))
theorem xb70_4 (hC : z_HC l G d z_tb C) : z_SB "QuotaPeers" prog_1_method_71_code 3 false d G l C ((Option.some Jvm.ClassFile.FieldType.int)) xp70 25 xB70_4.1 xB70_4.2 := sb_cons (n := 1) hC.1 (tz_ldA _) (so_aload_n 0 (by decide +kernel)) (sb_cons (n := 3) hC.1 (tz_gI _ _) (xg_0_17 w446 (by decide +kernel)) (sb_cons (n := 1) hC.1 (tz_ldI _) (so_iload_n 1 (by decide +kernel)) (sb_nil (tz_icmp _ _ _ _ _) (st_icmp_ge (off := 28) (by decide) (by decide) (by decide +kernel)))))
theorem xb70_5 (hC : z_HC l G d z_tb C) : z_SB "QuotaPeers" prog_1_method_71_code 3 false d G l C ((Option.some Jvm.ClassFile.FieldType.int)) xp70 33 xB70_5.1 xB70_5.2 := sb_cons (n := 1) hC.1 (tz_ldA _) (so_aload_n 0 (by decide +kernel)) (sb_cons (n := 1) hC.1 (tz_dupR) (so_dupR (by decide +kernel)) (sb_cons (n := 3) hC.1 (tz_gI _ _) (xg_0_17 w446 (by decide +kernel)) (sb_cons (n := 1) hC.1 (tz_cI _) (so_iconst (1) (1) (by decide +kernel) (by decide +kernel)) (sb_cons (n := 1) hC.1 (tz_ii _) (so_iadd (by decide +kernel)) (sb_cons (n := 3) hC.1 (tz_pI _ _) (xp_0_17 w446 (by decide +kernel)) (sb_cons (n := 1) hC.1 (tz_ldI _) (so_iload_n 2 (by decide +kernel)) (sb_cons (n := 1) hC.1 (tz_ldA _) (so_aload_n 0 (by decide +kernel)) (sb_cons (n := 3) hC.1 (tz_crV _ _ _) (xc_68 hC w1048 (by decide +kernel)) (sb_cons (n := 1) hC.1 (tz_ldA _) (so_aload_n 0 (by decide +kernel)) (sb_cons (n := 3) hC.1 (tz_crV _ _ _) (xc_69 hC w1060 (by decide +kernel)) (sb_cons (n := 1) hC.1 (tz_ii _) (so_iadd (by decide +kernel)) (sb_cons (n := 1) hC.1 (tz_ii _) (so_iadd (by decide +kernel)) (sb_cons (n := 1) hC.1 (tz_stI _) (so_istore_n 2 (by decide) (by decide +kernel)) (sb_nil (tz_goto _ _) (st_goto (off := -30) (by decide) (by decide +kernel))))))))))))))))
theorem xb70_6 (hC : z_HC l G d z_tb C) : z_SB "QuotaPeers" prog_1_method_71_code 3 false d G l C ((Option.some Jvm.ClassFile.FieldType.int)) xp70 58 xB70_6.1 xB70_6.2 := sb_cons (n := 1) hC.1 (tz_ldI _) (so_iload_n 2 (by decide +kernel)) (sb_nil (tz_iret) (st_iret rfl (by decide +kernel)))
theorem xm70 (hC : z_HC l G d z_tb C) : z_SM "QuotaPeers" prog_1_method_71_code 3 false d G l C ((Option.some Jvm.ClassFile.FieldType.int)) xp70 xP70 := by
  intro b
  match b with
  | 0 => exact xb70_0 hC
  | 1 => exact xb70_1 hC
  | 2 => exact xb70_2 hC
  | 3 => exact xb70_3 hC
  | 4 => exact xb70_4 hC
  | 5 => exact xb70_5 hC
  | 6 => exact xb70_6 hC
  | _ + 7 => exact sb_dead
end
/-! QuotaPeers.clock()I -/
def xB71_0 : List z_Op × z_Tm := ([zo_ldA 0, zo_gI 0 17], zt_iret)
def xp71 : Nat → Nat := fun b => ([0] : List Nat).getD b 0
def xP71 : z_M := fun b => ([xB71_0] : List (List z_Op × z_Tm)).getD b z_dead
section
variable {d : Nat} {G : z_G} {l : Launch} {C : z_O}
theorem xb71_0 (hC : z_HC l G d z_tb C) : z_SB "QuotaPeers" prog_1_method_72_code 1 false d G l C ((Option.some Jvm.ClassFile.FieldType.int)) xp71 0 xB71_0.1 xB71_0.2 := sb_cons (n := 1) hC.1 (tz_ldA _) (so_aload_n 0 (by decide +kernel)) (sb_cons (n := 3) hC.1 (tz_gI _ _) (xg_0_17 w446 (by decide +kernel)) (sb_nil (tz_iret) (st_iret rfl (by decide +kernel))))
theorem xm71 (hC : z_HC l G d z_tb C) : z_SM "QuotaPeers" prog_1_method_72_code 1 false d G l C ((Option.some Jvm.ClassFile.FieldType.int)) xp71 xP71 := by
  intro b
  match b with
  | 0 => exact xb71_0 hC
  | _ + 1 => exact sb_dead
end
/-! QuotaPeers.take(I)I -/
def xB72_0 : List z_Op × z_Tm := ([zo_ldA 0, zo_ldI 1, zo_crV 7 1 0, zo_stA 2, zo_ldA 2], zt_null 1 [false, false, false] 2 [false, false, true])
def xB72_1 : List z_Op × z_Tm := ([zo_cI (-1)], zt_goto 5 [false, false, false])
def xB72_2 : List z_Op × z_Tm := ([zo_ldA 2, zo_gI 4 8], zt_if (fun x => x = 0) 3 [false, false, false] 4 [false, false, true])
def xB72_3 : List z_Op × z_Tm := ([zo_cI (-2)], zt_goto 5 [false, false, false])
def xB72_4 : List z_Op × z_Tm := ([zo_ldA 2, zo_crV 195 0 4], zt_goto 5 [false, false, false])
def xB72_5 : List z_Op × z_Tm := ([], zt_iret)
def xp72 : Nat → Nat := fun b => ([0, 10, 14, 21, 26, 30] : List Nat).getD b 0
def xP72 : z_M := fun b => ([xB72_0, xB72_1, xB72_2, xB72_3, xB72_4, xB72_5] : List (List z_Op × z_Tm)).getD b z_dead
section
variable {d : Nat} {G : z_G} {l : Launch} {C : z_O}
theorem xb72_0 (hC : z_HC l G d z_tb C) : z_SB "QuotaPeers" prog_1_method_73_code 3 false d G l C ((Option.some Jvm.ClassFile.FieldType.int)) xp72 0 xB72_0.1 xB72_0.2 := sb_cons (n := 1) hC.1 (tz_ldA _) (so_aload_n 0 (by decide +kernel)) (sb_cons (n := 1) hC.1 (tz_ldI _) (so_iload_n 1 (by decide +kernel)) (sb_cons (n := 3) hC.1 (tz_crV _ _ _) (xc_7 hC w718 (by decide +kernel)) (sb_cons (n := 1) hC.1 (tz_stA _) (so_astore_n 2 (by decide) (by decide +kernel)) (sb_cons (n := 1) hC.1 (tz_ldA _) (so_aload_n 2 (by decide +kernel)) (sb_nil (tz_nul _ _ _ _) (st_ifnonnull (off := 7) (by decide) (by decide) (by decide +kernel)))))))
theorem xb72_1 (hC : z_HC l G d z_tb C) : z_SB "QuotaPeers" prog_1_method_73_code 3 false d G l C ((Option.some Jvm.ClassFile.FieldType.int)) xp72 10 xB72_1.1 xB72_1.2 := sb_cons (n := 1) hC.1 (tz_cI _) (so_iconst (-1) (-1) (by decide +kernel) (by decide +kernel)) (sb_nil (tz_goto _ _) (st_goto (off := 19) (by decide) (by decide +kernel)))
theorem xb72_2 (hC : z_HC l G d z_tb C) : z_SB "QuotaPeers" prog_1_method_73_code 3 false d G l C ((Option.some Jvm.ClassFile.FieldType.int)) xp72 14 xB72_2.1 xB72_2.2 := sb_cons (n := 1) hC.1 (tz_ldA _) (so_aload_n 2 (by decide +kernel)) (sb_cons (n := 3) hC.1 (tz_gI _ _) (xgN_4_8 w312 (by decide +kernel)) (sb_nil (tz_if _ _ _ _ _) (st_if_ne (off := 8) (by decide) (by decide) (by decide +kernel))))
theorem xb72_3 (hC : z_HC l G d z_tb C) : z_SB "QuotaPeers" prog_1_method_73_code 3 false d G l C ((Option.some Jvm.ClassFile.FieldType.int)) xp72 21 xB72_3.1 xB72_3.2 := sb_cons (n := 2) hC.1 (tz_cI _) (so_bipush (-2) (-2) (by decide +kernel) (by decide +kernel)) (sb_nil (tz_goto _ _) (st_goto (off := 7) (by decide) (by decide +kernel)))
theorem xb72_4 (hC : z_HC l G d z_tb C) : z_SB "QuotaPeers" prog_1_method_73_code 3 false d G l C ((Option.some Jvm.ClassFile.FieldType.int)) xp72 26 xB72_4.1 xB72_4.2 := sb_cons (n := 1) hC.1 (tz_ldA _) (so_aload_n 2 (by decide +kernel)) (sb_cons (n := 3) hC.1 (tz_crV _ _ _) (xc_195 hC w1072 (by decide +kernel)) (sb_nil (tz_goto _ _) (st_fall (by decide))))
theorem xb72_5 (hC : z_HC l G d z_tb C) : z_SB "QuotaPeers" prog_1_method_73_code 3 false d G l C ((Option.some Jvm.ClassFile.FieldType.int)) xp72 30 xB72_5.1 xB72_5.2 := sb_nil (tz_iret) (st_iret rfl (by decide +kernel))
theorem xm72 (hC : z_HC l G d z_tb C) : z_SM "QuotaPeers" prog_1_method_73_code 3 false d G l C ((Option.some Jvm.ClassFile.FieldType.int)) xp72 xP72 := by
  intro b
  match b with
  | 0 => exact xb72_0 hC
  | 1 => exact xb72_1 hC
  | 2 => exact xb72_2 hC
  | 3 => exact xb72_3 hC
  | 4 => exact xb72_4 hC
  | 5 => exact xb72_5 hC
  | _ + 6 => exact sb_dead
end
/-! QuotaPeers.waiting(I)I -/
def xB73_0 : List z_Op × z_Tm := ([zo_ldA 0, zo_ldI 1, zo_crV 7 1 0, zo_stA 2, zo_ldA 2], zt_null 1 [false, false, false] 2 [false, false, true])
def xB73_1 : List z_Op × z_Tm := ([zo_cI (-1)], zt_goto 3 [false, false, false])
def xB73_2 : List z_Op × z_Tm := ([zo_ldA 2, zo_gI 4 8], zt_goto 3 [false, false, false])
def xB73_3 : List z_Op × z_Tm := ([], zt_iret)
def xp73 : Nat → Nat := fun b => ([0, 10, 14, 18] : List Nat).getD b 0
def xP73 : z_M := fun b => ([xB73_0, xB73_1, xB73_2, xB73_3] : List (List z_Op × z_Tm)).getD b z_dead
section
variable {d : Nat} {G : z_G} {l : Launch} {C : z_O}
theorem xb73_0 (hC : z_HC l G d z_tb C) : z_SB "QuotaPeers" prog_1_method_74_code 3 false d G l C ((Option.some Jvm.ClassFile.FieldType.int)) xp73 0 xB73_0.1 xB73_0.2 := sb_cons (n := 1) hC.1 (tz_ldA _) (so_aload_n 0 (by decide +kernel)) (sb_cons (n := 1) hC.1 (tz_ldI _) (so_iload_n 1 (by decide +kernel)) (sb_cons (n := 3) hC.1 (tz_crV _ _ _) (xc_7 hC w718 (by decide +kernel)) (sb_cons (n := 1) hC.1 (tz_stA _) (so_astore_n 2 (by decide) (by decide +kernel)) (sb_cons (n := 1) hC.1 (tz_ldA _) (so_aload_n 2 (by decide +kernel)) (sb_nil (tz_nul _ _ _ _) (st_ifnonnull (off := 7) (by decide) (by decide) (by decide +kernel)))))))
theorem xb73_1 (hC : z_HC l G d z_tb C) : z_SB "QuotaPeers" prog_1_method_74_code 3 false d G l C ((Option.some Jvm.ClassFile.FieldType.int)) xp73 10 xB73_1.1 xB73_1.2 := sb_cons (n := 1) hC.1 (tz_cI _) (so_iconst (-1) (-1) (by decide +kernel) (by decide +kernel)) (sb_nil (tz_goto _ _) (st_goto (off := 7) (by decide) (by decide +kernel)))
theorem xb73_2 (hC : z_HC l G d z_tb C) : z_SB "QuotaPeers" prog_1_method_74_code 3 false d G l C ((Option.some Jvm.ClassFile.FieldType.int)) xp73 14 xB73_2.1 xB73_2.2 := sb_cons (n := 1) hC.1 (tz_ldA _) (so_aload_n 2 (by decide +kernel)) (sb_cons (n := 3) hC.1 (tz_gI _ _) (xgN_4_8 w312 (by decide +kernel)) (sb_nil (tz_goto _ _) (st_fall (by decide))))
theorem xb73_3 (hC : z_HC l G d z_tb C) : z_SB "QuotaPeers" prog_1_method_74_code 3 false d G l C ((Option.some Jvm.ClassFile.FieldType.int)) xp73 18 xB73_3.1 xB73_3.2 := sb_nil (tz_iret) (st_iret rfl (by decide +kernel))
theorem xm73 (hC : z_HC l G d z_tb C) : z_SM "QuotaPeers" prog_1_method_74_code 3 false d G l C ((Option.some Jvm.ClassFile.FieldType.int)) xp73 xP73 := by
  intro b
  match b with
  | 0 => exact xb73_0 hC
  | 1 => exact xb73_1 hC
  | 2 => exact xb73_2 hC
  | 3 => exact xb73_3 hC
  | _ + 4 => exact sb_dead
end
/-! QuotaPeers.connection(II)I -/
def xB74_0 : List z_Op × z_Tm := ([zo_ldA 0, zo_ldI 1, zo_crV 7 1 0, zo_stA 3, zo_ldA 3], zt_null 1 [false, false, false, false] 2 [false, false, true, true])
def xB74_1 : List z_Op × z_Tm := ([zo_cI (-1)], zt_iret)
def xB74_2 : List z_Op × z_Tm := ([zo_ldI 2], zt_sw [(0, 3, [false, false, false, true]), (1, 4, [false, false, false, true]), (2, 8, [false, false, false, true]), (3, 14, [false, false, false, true])] (15, [false, false, false, false]))
def xB74_3 : List z_Op × z_Tm := ([zo_ldA 3, zo_gI 4 1], zt_iret)
def xB74_4 : List z_Op × z_Tm := ([zo_ldA 3, zo_gR 4 2], zt_null 5 [false, false, false, false] 6 [false, false, false, true])
def xB74_5 : List z_Op × z_Tm := ([zo_cI (0)], zt_goto 7 [false, false, false, false])
def xB74_6 : List z_Op × z_Tm := ([zo_ldA 3, zo_gR 4 2, zo_gI 9 0], zt_goto 7 [false, false, false, false])
def xB74_7 : List z_Op × z_Tm := ([], zt_iret)
def xB74_8 : List z_Op × z_Tm := ([zo_ldA 3, zo_gR 4 2], zt_null 9 [false, false, false, false] 10 [false, false, false, true])
def xB74_9 : List z_Op × z_Tm := ([zo_cI (0)], zt_goto 13 [false, false, false, false])
def xB74_10 : List z_Op × z_Tm := ([zo_ldA 3, zo_gI 4 3], zt_if (fun x => x = 0) 12 [false, false, false, false] 11 [false, false, false, false])
def xB74_11 : List z_Op × z_Tm := ([zo_cI (1)], zt_goto 13 [false, false, false, false])
def xB74_12 : List z_Op × z_Tm := ([zo_cI (2)], zt_goto 13 [false, false, false, false])
def xB74_13 : List z_Op × z_Tm := ([], zt_iret)
def xB74_14 : List z_Op × z_Tm := ([zo_ldA 3, zo_gI 4 5], zt_iret)
def xB74_15 : List z_Op × z_Tm := ([zo_cI (-2)], zt_iret)
def xp74 : Nat → Nat := fun b => ([0, 10, 12, 44, 49, 56, 60, 67, 68, 75, 79, 86, 90, 91, 92, 97] : List Nat).getD b 0
def xP74 : z_M := fun b => ([xB74_0, xB74_1, xB74_2, xB74_3, xB74_4, xB74_5, xB74_6, xB74_7, xB74_8, xB74_9, xB74_10, xB74_11, xB74_12, xB74_13, xB74_14, xB74_15] : List (List z_Op × z_Tm)).getD b z_dead
section
variable {d : Nat} {G : z_G} {l : Launch} {C : z_O}
theorem xb74_0 (hC : z_HC l G d z_tb C) : z_SB "QuotaPeers" prog_1_method_75_code 4 false d G l C ((Option.some Jvm.ClassFile.FieldType.int)) xp74 0 xB74_0.1 xB74_0.2 := sb_cons (n := 1) hC.1 (tz_ldA _) (so_aload_n 0 (by decide +kernel)) (sb_cons (n := 1) hC.1 (tz_ldI _) (so_iload_n 1 (by decide +kernel)) (sb_cons (n := 3) hC.1 (tz_crV _ _ _) (xc_7 hC w718 (by decide +kernel)) (sb_cons (n := 1) hC.1 (tz_stA _) (so_astore_n 3 (by decide) (by decide +kernel)) (sb_cons (n := 1) hC.1 (tz_ldA _) (so_aload_n 3 (by decide +kernel)) (sb_nil (tz_nul _ _ _ _) (st_ifnonnull (off := 5) (by decide) (by decide) (by decide +kernel)))))))
theorem xb74_1 (hC : z_HC l G d z_tb C) : z_SB "QuotaPeers" prog_1_method_75_code 4 false d G l C ((Option.some Jvm.ClassFile.FieldType.int)) xp74 10 xB74_1.1 xB74_1.2 := sb_cons (n := 1) hC.1 (tz_cI _) (so_iconst (-1) (-1) (by decide +kernel) (by decide +kernel)) (sb_nil (tz_iret) (st_iret rfl (by decide +kernel)))
theorem xb74_2 (hC : z_HC l G d z_tb C) : z_SB "QuotaPeers" prog_1_method_75_code 4 false d G l C ((Option.some Jvm.ClassFile.FieldType.int)) xp74 12 xB74_2.1 xB74_2.2 := sb_cons (n := 1) hC.1 (tz_ldI _) (so_iload_n 2 (by decide +kernel)) (sb_nil (tz_sw _ _) (st_table (dflt := 84) (lo := 0) (hi := 3) (offs := #[31, 36, 55, 79]) (len := 31) (by decide +kernel) (by decide) (by decide +kernel)))
theorem xb74_3 (hC : z_HC l G d z_tb C) : z_SB "QuotaPeers" prog_1_method_75_code 4 false d G l C ((Option.some Jvm.ClassFile.FieldType.int)) xp74 44 xB74_3.1 xB74_3.2 := sb_cons (n := 1) hC.1 (tz_ldA _) (so_aload_n 3 (by decide +kernel)) (sb_cons (n := 3) hC.1 (tz_gI _ _) (xgN_4_1 w300 (by decide +kernel)) (sb_nil (tz_iret) (st_iret rfl (by decide +kernel))))
theorem xb74_4 (hC : z_HC l G d z_tb C) : z_SB "QuotaPeers" prog_1_method_75_code 4 false d G l C ((Option.some Jvm.ClassFile.FieldType.int)) xp74 49 xB74_4.1 xB74_4.2 := sb_cons (n := 1) hC.1 (tz_ldA _) (so_aload_n 3 (by decide +kernel)) (sb_cons (n := 3) hC.1 (tz_gR _ _) (xgN_4_2 w302 (by decide +kernel)) (sb_nil (tz_nul _ _ _ _) (st_ifnonnull (off := 7) (by decide) (by decide) (by decide +kernel))))
theorem xb74_5 (hC : z_HC l G d z_tb C) : z_SB "QuotaPeers" prog_1_method_75_code 4 false d G l C ((Option.some Jvm.ClassFile.FieldType.int)) xp74 56 xB74_5.1 xB74_5.2 := sb_cons (n := 1) hC.1 (tz_cI _) (so_iconst (0) (0) (by decide +kernel) (by decide +kernel)) (sb_nil (tz_goto _ _) (st_goto (off := 10) (by decide) (by decide +kernel)))
theorem xb74_6 (hC : z_HC l G d z_tb C) : z_SB "QuotaPeers" prog_1_method_75_code 4 false d G l C ((Option.some Jvm.ClassFile.FieldType.int)) xp74 60 xB74_6.1 xB74_6.2 := sb_cons (n := 1) hC.1 (tz_ldA _) (so_aload_n 3 (by decide +kernel)) (sb_cons (n := 3) hC.1 (tz_gR _ _) (xgN_4_2 w302 (by decide +kernel)) (sb_cons (n := 3) hC.1 (tz_gI _ _) (xgN_9_0 w532 (by decide +kernel)) (sb_nil (tz_goto _ _) (st_fall (by decide)))))
theorem xb74_7 (hC : z_HC l G d z_tb C) : z_SB "QuotaPeers" prog_1_method_75_code 4 false d G l C ((Option.some Jvm.ClassFile.FieldType.int)) xp74 67 xB74_7.1 xB74_7.2 := sb_nil (tz_iret) (st_iret rfl (by decide +kernel))
theorem xb74_8 (hC : z_HC l G d z_tb C) : z_SB "QuotaPeers" prog_1_method_75_code 4 false d G l C ((Option.some Jvm.ClassFile.FieldType.int)) xp74 68 xB74_8.1 xB74_8.2 := sb_cons (n := 1) hC.1 (tz_ldA _) (so_aload_n 3 (by decide +kernel)) (sb_cons (n := 3) hC.1 (tz_gR _ _) (xgN_4_2 w302 (by decide +kernel)) (sb_nil (tz_nul _ _ _ _) (st_ifnonnull (off := 7) (by decide) (by decide) (by decide +kernel))))
theorem xb74_9 (hC : z_HC l G d z_tb C) : z_SB "QuotaPeers" prog_1_method_75_code 4 false d G l C ((Option.some Jvm.ClassFile.FieldType.int)) xp74 75 xB74_9.1 xB74_9.2 := sb_cons (n := 1) hC.1 (tz_cI _) (so_iconst (0) (0) (by decide +kernel) (by decide +kernel)) (sb_nil (tz_goto _ _) (st_goto (off := 15) (by decide) (by decide +kernel)))
theorem xb74_10 (hC : z_HC l G d z_tb C) : z_SB "QuotaPeers" prog_1_method_75_code 4 false d G l C ((Option.some Jvm.ClassFile.FieldType.int)) xp74 79 xB74_10.1 xB74_10.2 := sb_cons (n := 1) hC.1 (tz_ldA _) (so_aload_n 3 (by decide +kernel)) (sb_cons (n := 3) hC.1 (tz_gI _ _) (xgN_4_3 w304 (by decide +kernel)) (sb_nil (tz_if _ _ _ _ _) (st_if_eq (off := 7) (by decide) (by decide) (by decide +kernel))))
theorem xb74_11 (hC : z_HC l G d z_tb C) : z_SB "QuotaPeers" prog_1_method_75_code 4 false d G l C ((Option.some Jvm.ClassFile.FieldType.int)) xp74 86 xB74_11.1 xB74_11.2 := sb_cons (n := 1) hC.1 (tz_cI _) (so_iconst (1) (1) (by decide +kernel) (by decide +kernel)) (sb_nil (tz_goto _ _) (st_goto (off := 4) (by decide) (by decide +kernel)))
theorem xb74_12 (hC : z_HC l G d z_tb C) : z_SB "QuotaPeers" prog_1_method_75_code 4 false d G l C ((Option.some Jvm.ClassFile.FieldType.int)) xp74 90 xB74_12.1 xB74_12.2 := sb_cons (n := 1) hC.1 (tz_cI _) (so_iconst (2) (2) (by decide +kernel) (by decide +kernel)) (sb_nil (tz_goto _ _) (st_fall (by decide)))
theorem xb74_13 (hC : z_HC l G d z_tb C) : z_SB "QuotaPeers" prog_1_method_75_code 4 false d G l C ((Option.some Jvm.ClassFile.FieldType.int)) xp74 91 xB74_13.1 xB74_13.2 := sb_nil (tz_iret) (st_iret rfl (by decide +kernel))
theorem xb74_14 (hC : z_HC l G d z_tb C) : z_SB "QuotaPeers" prog_1_method_75_code 4 false d G l C ((Option.some Jvm.ClassFile.FieldType.int)) xp74 92 xB74_14.1 xB74_14.2 := sb_cons (n := 1) hC.1 (tz_ldA _) (so_aload_n 3 (by decide +kernel)) (sb_cons (n := 3) hC.1 (tz_gI _ _) (xgN_4_5 w308 (by decide +kernel)) (sb_nil (tz_iret) (st_iret rfl (by decide +kernel))))
theorem xb74_15 (hC : z_HC l G d z_tb C) : z_SB "QuotaPeers" prog_1_method_75_code 4 false d G l C ((Option.some Jvm.ClassFile.FieldType.int)) xp74 97 xB74_15.1 xB74_15.2 := sb_cons (n := 2) hC.1 (tz_cI _) (so_bipush (-2) (-2) (by decide +kernel) (by decide +kernel)) (sb_nil (tz_iret) (st_iret rfl (by decide +kernel)))
theorem xm74 (hC : z_HC l G d z_tb C) : z_SM "QuotaPeers" prog_1_method_75_code 4 false d G l C ((Option.some Jvm.ClassFile.FieldType.int)) xp74 xP74 := by
  intro b
  match b with
  | 0 => exact xb74_0 hC
  | 1 => exact xb74_1 hC
  | 2 => exact xb74_2 hC
  | 3 => exact xb74_3 hC
  | 4 => exact xb74_4 hC
  | 5 => exact xb74_5 hC
  | 6 => exact xb74_6 hC
  | 7 => exact xb74_7 hC
  | 8 => exact xb74_8 hC
  | 9 => exact xb74_9 hC
  | 10 => exact xb74_10 hC
  | 11 => exact xb74_11 hC
  | 12 => exact xb74_12 hC
  | 13 => exact xb74_13 hC
  | 14 => exact xb74_14 hC
  | 15 => exact xb74_15 hC
  | _ + 16 => exact sb_dead
end
/-! QuotaPeers.state(II)I -/
def xB75_0 : List z_Op × z_Tm := ([zo_ldA 0, zo_ldI 1, zo_crV 6 1 0, zo_stA 3, zo_ldA 3], zt_null 1 [false, false, false, false] 2 [false, false, true, true])
def xB75_1 : List z_Op × z_Tm := ([zo_cI (-1)], zt_iret)
def xB75_2 : List z_Op × z_Tm := ([zo_ldI 2], zt_sw [(0, 3, [false, false, false, true]), (1, 4, [false, false, false, true]), (2, 8, [false, false, false, true]), (3, 12, [false, false, false, true]), (4, 13, [false, false, false, true]), (5, 17, [false, false, false, true]), (6, 18, [false, false, false, true]), (7, 19, [false, false, false, true])] (20, [false, false, false, false]))
def xB75_3 : List z_Op × z_Tm := ([zo_ldA 3, zo_gI 9 3], zt_iret)
def xB75_4 : List z_Op × z_Tm := ([zo_ldA 3, zo_gR 9 5], zt_null 5 [false, false, false, false] 6 [false, false, false, true])
def xB75_5 : List z_Op × z_Tm := ([zo_cI (0)], zt_goto 7 [false, false, false, false])
def xB75_6 : List z_Op × z_Tm := ([zo_ldA 3, zo_gR 9 5, zo_gI 4 0], zt_goto 7 [false, false, false, false])
def xB75_7 : List z_Op × z_Tm := ([], zt_iret)
def xB75_8 : List z_Op × z_Tm := ([zo_ldA 3, zo_gR 9 6], zt_null 9 [false, false, false, false] 10 [false, false, false, true])
def xB75_9 : List z_Op × z_Tm := ([zo_cI (0)], zt_goto 11 [false, false, false, false])
def xB75_10 : List z_Op × z_Tm := ([zo_ldA 3, zo_gR 9 6, zo_gI 4 0], zt_goto 11 [false, false, false, false])
def xB75_11 : List z_Op × z_Tm := ([], zt_iret)
def xB75_12 : List z_Op × z_Tm := ([zo_ldA 3, zo_gI 9 10], zt_iret)
def xB75_13 : List z_Op × z_Tm := ([zo_ldA 3, zo_gI 9 11], zt_if (fun x => x = 0) 15 [false, false, false, false] 14 [false, false, false, false])
def xB75_14 : List z_Op × z_Tm := ([zo_cI (1)], zt_goto 16 [false, false, false, false])
def xB75_15 : List z_Op × z_Tm := ([zo_cI (0)], zt_goto 16 [false, false, false, false])
def xB75_16 : List z_Op × z_Tm := ([], zt_iret)
def xB75_17 : List z_Op × z_Tm := ([zo_ldA 3, zo_gI 9 12], zt_iret)
def xB75_18 : List z_Op × z_Tm := ([zo_ldA 3, zo_gI 9 13], zt_iret)
def xB75_19 : List z_Op × z_Tm := ([zo_ldA 3, zo_gI 9 14], zt_iret)
def xB75_20 : List z_Op × z_Tm := ([zo_cI (-2)], zt_iret)
def xp75 : Nat → Nat := fun b => ([0, 10, 12, 60, 65, 72, 76, 83, 84, 91, 95, 102, 103, 108, 115, 119, 120, 121, 126, 131, 136] : List Nat).getD b 0
def xP75 : z_M := fun b => ([xB75_0, xB75_1, xB75_2, xB75_3, xB75_4, xB75_5, xB75_6, xB75_7, xB75_8, xB75_9, xB75_10, xB75_11, xB75_12, xB75_13, xB75_14, xB75_15, xB75_16, xB75_17, xB75_18, xB75_19, xB75_20] : List (List z_Op × z_Tm)).getD b z_dead
section
variable {d : Nat} {G : z_G} {l : Launch} {C : z_O}
theorem xb75_0 (hC : z_HC l G d z_tb C) : z_SB "QuotaPeers" prog_1_method_76_code 4 false d G l C ((Option.some Jvm.ClassFile.FieldType.int)) xp75 0 xB75_0.1 xB75_0.2 := sb_cons (n := 1) hC.1 (tz_ldA _) (so_aload_n 0 (by decide +kernel)) (sb_cons (n := 1) hC.1 (tz_ldI _) (so_iload_n 1 (by decide +kernel)) (sb_cons (n := 3) hC.1 (tz_crV _ _ _) (xc_6 hC w598 (by decide +kernel)) (sb_cons (n := 1) hC.1 (tz_stA _) (so_astore_n 3 (by decide) (by decide +kernel)) (sb_cons (n := 1) hC.1 (tz_ldA _) (so_aload_n 3 (by decide +kernel)) (sb_nil (tz_nul _ _ _ _) (st_ifnonnull (off := 5) (by decide) (by decide) (by decide +kernel)))))))
theorem xb75_1 (hC : z_HC l G d z_tb C) : z_SB "QuotaPeers" prog_1_method_76_code 4 false d G l C ((Option.some Jvm.ClassFile.FieldType.int)) xp75 10 xB75_1.1 xB75_1.2 := sb_cons (n := 1) hC.1 (tz_cI _) (so_iconst (-1) (-1) (by decide +kernel) (by decide +kernel)) (sb_nil (tz_iret) (st_iret rfl (by decide +kernel)))
theorem xb75_2 (hC : z_HC l G d z_tb C) : z_SB "QuotaPeers" prog_1_method_76_code 4 false d G l C ((Option.some Jvm.ClassFile.FieldType.int)) xp75 12 xB75_2.1 xB75_2.2 := sb_cons (n := 1) hC.1 (tz_ldI _) (so_iload_n 2 (by decide +kernel)) (sb_nil (tz_sw _ _) (st_table (dflt := 123) (lo := 0) (hi := 7) (offs := #[47, 52, 71, 90, 95, 108, 113, 118]) (len := 47) (by decide +kernel) (by decide) (by decide +kernel)))
theorem xb75_3 (hC : z_HC l G d z_tb C) : z_SB "QuotaPeers" prog_1_method_76_code 4 false d G l C ((Option.some Jvm.ClassFile.FieldType.int)) xp75 60 xB75_3.1 xB75_3.2 := sb_cons (n := 1) hC.1 (tz_ldA _) (so_aload_n 3 (by decide +kernel)) (sb_cons (n := 3) hC.1 (tz_gI _ _) (xgN_9_3 w538 (by decide +kernel)) (sb_nil (tz_iret) (st_iret rfl (by decide +kernel))))
theorem xb75_4 (hC : z_HC l G d z_tb C) : z_SB "QuotaPeers" prog_1_method_76_code 4 false d G l C ((Option.some Jvm.ClassFile.FieldType.int)) xp75 65 xB75_4.1 xB75_4.2 := sb_cons (n := 1) hC.1 (tz_ldA _) (so_aload_n 3 (by decide +kernel)) (sb_cons (n := 3) hC.1 (tz_gR _ _) (xgN_9_5 w541 (by decide +kernel)) (sb_nil (tz_nul _ _ _ _) (st_ifnonnull (off := 7) (by decide) (by decide) (by decide +kernel))))
theorem xb75_5 (hC : z_HC l G d z_tb C) : z_SB "QuotaPeers" prog_1_method_76_code 4 false d G l C ((Option.some Jvm.ClassFile.FieldType.int)) xp75 72 xB75_5.1 xB75_5.2 := sb_cons (n := 1) hC.1 (tz_cI _) (so_iconst (0) (0) (by decide +kernel) (by decide +kernel)) (sb_nil (tz_goto _ _) (st_goto (off := 10) (by decide) (by decide +kernel)))
theorem xb75_6 (hC : z_HC l G d z_tb C) : z_SB "QuotaPeers" prog_1_method_76_code 4 false d G l C ((Option.some Jvm.ClassFile.FieldType.int)) xp75 76 xB75_6.1 xB75_6.2 := sb_cons (n := 1) hC.1 (tz_ldA _) (so_aload_n 3 (by decide +kernel)) (sb_cons (n := 3) hC.1 (tz_gR _ _) (xgN_9_5 w541 (by decide +kernel)) (sb_cons (n := 3) hC.1 (tz_gI _ _) (xgN_4_0 w298 (by decide +kernel)) (sb_nil (tz_goto _ _) (st_fall (by decide)))))
theorem xb75_7 (hC : z_HC l G d z_tb C) : z_SB "QuotaPeers" prog_1_method_76_code 4 false d G l C ((Option.some Jvm.ClassFile.FieldType.int)) xp75 83 xB75_7.1 xB75_7.2 := sb_nil (tz_iret) (st_iret rfl (by decide +kernel))
theorem xb75_8 (hC : z_HC l G d z_tb C) : z_SB "QuotaPeers" prog_1_method_76_code 4 false d G l C ((Option.some Jvm.ClassFile.FieldType.int)) xp75 84 xB75_8.1 xB75_8.2 := sb_cons (n := 1) hC.1 (tz_ldA _) (so_aload_n 3 (by decide +kernel)) (sb_cons (n := 3) hC.1 (tz_gR _ _) (xgN_9_6 w543 (by decide +kernel)) (sb_nil (tz_nul _ _ _ _) (st_ifnonnull (off := 7) (by decide) (by decide) (by decide +kernel))))
theorem xb75_9 (hC : z_HC l G d z_tb C) : z_SB "QuotaPeers" prog_1_method_76_code 4 false d G l C ((Option.some Jvm.ClassFile.FieldType.int)) xp75 91 xB75_9.1 xB75_9.2 := sb_cons (n := 1) hC.1 (tz_cI _) (so_iconst (0) (0) (by decide +kernel) (by decide +kernel)) (sb_nil (tz_goto _ _) (st_goto (off := 10) (by decide) (by decide +kernel)))
theorem xb75_10 (hC : z_HC l G d z_tb C) : z_SB "QuotaPeers" prog_1_method_76_code 4 false d G l C ((Option.some Jvm.ClassFile.FieldType.int)) xp75 95 xB75_10.1 xB75_10.2 := sb_cons (n := 1) hC.1 (tz_ldA _) (so_aload_n 3 (by decide +kernel)) (sb_cons (n := 3) hC.1 (tz_gR _ _) (xgN_9_6 w543 (by decide +kernel)) (sb_cons (n := 3) hC.1 (tz_gI _ _) (xgN_4_0 w298 (by decide +kernel)) (sb_nil (tz_goto _ _) (st_fall (by decide)))))
theorem xb75_11 (hC : z_HC l G d z_tb C) : z_SB "QuotaPeers" prog_1_method_76_code 4 false d G l C ((Option.some Jvm.ClassFile.FieldType.int)) xp75 102 xB75_11.1 xB75_11.2 := sb_nil (tz_iret) (st_iret rfl (by decide +kernel))
theorem xb75_12 (hC : z_HC l G d z_tb C) : z_SB "QuotaPeers" prog_1_method_76_code 4 false d G l C ((Option.some Jvm.ClassFile.FieldType.int)) xp75 103 xB75_12.1 xB75_12.2 := sb_cons (n := 1) hC.1 (tz_ldA _) (so_aload_n 3 (by decide +kernel)) (sb_cons (n := 3) hC.1 (tz_gI _ _) (xgN_9_10 w548 (by decide +kernel)) (sb_nil (tz_iret) (st_iret rfl (by decide +kernel))))
theorem xb75_13 (hC : z_HC l G d z_tb C) : z_SB "QuotaPeers" prog_1_method_76_code 4 false d G l C ((Option.some Jvm.ClassFile.FieldType.int)) xp75 108 xB75_13.1 xB75_13.2 := sb_cons (n := 1) hC.1 (tz_ldA _) (so_aload_n 3 (by decide +kernel)) (sb_cons (n := 3) hC.1 (tz_gI _ _) (xgN_9_11 w549 (by decide +kernel)) (sb_nil (tz_if _ _ _ _ _) (st_if_eq (off := 7) (by decide) (by decide) (by decide +kernel))))
theorem xb75_14 (hC : z_HC l G d z_tb C) : z_SB "QuotaPeers" prog_1_method_76_code 4 false d G l C ((Option.some Jvm.ClassFile.FieldType.int)) xp75 115 xB75_14.1 xB75_14.2 := sb_cons (n := 1) hC.1 (tz_cI _) (so_iconst (1) (1) (by decide +kernel) (by decide +kernel)) (sb_nil (tz_goto _ _) (st_goto (off := 4) (by decide) (by decide +kernel)))
theorem xb75_15 (hC : z_HC l G d z_tb C) : z_SB "QuotaPeers" prog_1_method_76_code 4 false d G l C ((Option.some Jvm.ClassFile.FieldType.int)) xp75 119 xB75_15.1 xB75_15.2 := sb_cons (n := 1) hC.1 (tz_cI _) (so_iconst (0) (0) (by decide +kernel) (by decide +kernel)) (sb_nil (tz_goto _ _) (st_fall (by decide)))
theorem xb75_16 (hC : z_HC l G d z_tb C) : z_SB "QuotaPeers" prog_1_method_76_code 4 false d G l C ((Option.some Jvm.ClassFile.FieldType.int)) xp75 120 xB75_16.1 xB75_16.2 := sb_nil (tz_iret) (st_iret rfl (by decide +kernel))
theorem xb75_17 (hC : z_HC l G d z_tb C) : z_SB "QuotaPeers" prog_1_method_76_code 4 false d G l C ((Option.some Jvm.ClassFile.FieldType.int)) xp75 121 xB75_17.1 xB75_17.2 := sb_cons (n := 1) hC.1 (tz_ldA _) (so_aload_n 3 (by decide +kernel)) (sb_cons (n := 3) hC.1 (tz_gI _ _) (xgN_9_12 w551 (by decide +kernel)) (sb_nil (tz_iret) (st_iret rfl (by decide +kernel))))
theorem xb75_18 (hC : z_HC l G d z_tb C) : z_SB "QuotaPeers" prog_1_method_76_code 4 false d G l C ((Option.some Jvm.ClassFile.FieldType.int)) xp75 126 xB75_18.1 xB75_18.2 := sb_cons (n := 1) hC.1 (tz_ldA _) (so_aload_n 3 (by decide +kernel)) (sb_cons (n := 3) hC.1 (tz_gI _ _) (xgN_9_13 w552 (by decide +kernel)) (sb_nil (tz_iret) (st_iret rfl (by decide +kernel))))
theorem xb75_19 (hC : z_HC l G d z_tb C) : z_SB "QuotaPeers" prog_1_method_76_code 4 false d G l C ((Option.some Jvm.ClassFile.FieldType.int)) xp75 131 xB75_19.1 xB75_19.2 := sb_cons (n := 1) hC.1 (tz_ldA _) (so_aload_n 3 (by decide +kernel)) (sb_cons (n := 3) hC.1 (tz_gI _ _) (xgN_9_14 w553 (by decide +kernel)) (sb_nil (tz_iret) (st_iret rfl (by decide +kernel))))
theorem xb75_20 (hC : z_HC l G d z_tb C) : z_SB "QuotaPeers" prog_1_method_76_code 4 false d G l C ((Option.some Jvm.ClassFile.FieldType.int)) xp75 136 xB75_20.1 xB75_20.2 := sb_cons (n := 2) hC.1 (tz_cI _) (so_bipush (-2) (-2) (by decide +kernel) (by decide +kernel)) (sb_nil (tz_iret) (st_iret rfl (by decide +kernel)))
theorem xm75 (hC : z_HC l G d z_tb C) : z_SM "QuotaPeers" prog_1_method_76_code 4 false d G l C ((Option.some Jvm.ClassFile.FieldType.int)) xp75 xP75 := by
  intro b
  match b with
  | 0 => exact xb75_0 hC
  | 1 => exact xb75_1 hC
  | 2 => exact xb75_2 hC
  | 3 => exact xb75_3 hC
  | 4 => exact xb75_4 hC
  | 5 => exact xb75_5 hC
  | 6 => exact xb75_6 hC
  | 7 => exact xb75_7 hC
  | 8 => exact xb75_8 hC
  | 9 => exact xb75_9 hC
  | 10 => exact xb75_10 hC
  | 11 => exact xb75_11 hC
  | 12 => exact xb75_12 hC
  | 13 => exact xb75_13 hC
  | 14 => exact xb75_14 hC
  | 15 => exact xb75_15 hC
  | 16 => exact xb75_16 hC
  | 17 => exact xb75_17 hC
  | 18 => exact xb75_18 hC
  | 19 => exact xb75_19 hC
  | 20 => exact xb75_20 hC
  | _ + 21 => exact sb_dead
end
/-! QuotaPeers.account(JJ)I -/
def xB76_0 : List z_Op × z_Tm := ([zo_ldJ 1, zo_cJ (1), zo_cJ (99999999999999999), zo_crS 2 3], zt_if (fun x => x = 0) 2 [false, false, false, false, false] 1 [true, true, false, true, false])
def xB76_1 : List z_Op × z_Tm := ([zo_ldJ 3, zo_cJ (0), zo_cJ (1152921504606846976), zo_crS 2 3], zt_if (fun x => x = 0) 2 [false, false, false, false, false] 3 [true, true, false, true, false])
def xB76_2 : List z_Op × z_Tm := ([zo_cI (-2)], zt_iret)
def xB76_3 : List z_Op × z_Tm := ([zo_ldA 0, zo_ldJ 1, zo_crV 56 1 0], zt_null 5 [true, true, false, true, false] 4 [false, false, false, false, false])
def xB76_4 : List z_Op × z_Tm := ([zo_cI (-3)], zt_iret)
def xB76_5 : List z_Op × z_Tm := ([zo_ldA 0, zo_gI 0 10, zo_cI (16)], zt_icmp (fun x y => x = y) 6 [false, false, false, false, false] 7 [true, true, false, true, false])
def xB76_6 : List z_Op × z_Tm := ([zo_cI (-4)], zt_iret)
def xB76_7 : List z_Op × z_Tm := ([zo_ldA 0, zo_gR 0 9, zo_ldA 0, zo_dupR, zo_gI 0 10, zo_dupx1, zo_cI (1), zo_ii ((· + ·)), zo_pI 0 10, zo_new 10, zo_dupR, zo_ldJ 1, zo_ldJ 3, zo_cvV 186 2 10, zo_astR, zo_ldA 0, zo_gI 0 10], zt_iret)
def xp76 : Nat → Nat := fun b => ([0, 11, 22, 25, 33, 36, 45, 48] : List Nat).getD b 0
def xP76 : z_M := fun b => ([xB76_0, xB76_1, xB76_2, xB76_3, xB76_4, xB76_5, xB76_6, xB76_7] : List (List z_Op × z_Tm)).getD b z_dead
section
variable {d : Nat} {G : z_G} {l : Launch} {C : z_O}
theorem xb76_0 (hC : z_HC l G d z_tb C) : z_SB "QuotaPeers" prog_1_method_77_code 5 false d G l C ((Option.some Jvm.ClassFile.FieldType.int)) xp76 0 xB76_0.1 xB76_0.2 := sb_cons (n := 1) hC.1 (tz_ldJ _) (so_lload_n 1 (by decide +kernel)) (sb_cons (n := 1) hC.1 (tz_cJ _) (so_lconst 1 (1) (by decide +kernel) (by decide +kernel)) (sb_cons (n := 3) hC.1 (tz_cJ _) (so_ldc2 651 (99999999999999999) w1092 (by decide +kernel)) (sb_cons (n := 3) hC.1 (tz_crS _ _) (xc_2 hC w602 (by decide +kernel)) (sb_nil (tz_if _ _ _ _ _) (st_if_eq (off := 14) (by decide) (by decide) (by decide +kernel))))))
theorem xb76_1 (hC : z_HC l G d z_tb C) : z_SB "QuotaPeers" prog_1_method_77_code 5 false d G l C ((Option.some Jvm.ClassFile.FieldType.int)) xp76 11 xB76_1.1 xB76_1.2 := sb_cons (n := 1) hC.1 (tz_ldJ _) (so_lload_n 3 (by decide +kernel)) (sb_cons (n := 1) hC.1 (tz_cJ _) (so_lconst 0 (0) (by decide +kernel) (by decide +kernel)) (sb_cons (n := 3) hC.1 (tz_cJ _) (so_ldc2 538 (1152921504606846976) w954 (by decide +kernel)) (sb_cons (n := 3) hC.1 (tz_crS _ _) (xc_2 hC w602 (by decide +kernel)) (sb_nil (tz_if _ _ _ _ _) (st_if_ne (off := 6) (by decide) (by decide) (by decide +kernel))))))
theorem xb76_2 (hC : z_HC l G d z_tb C) : z_SB "QuotaPeers" prog_1_method_77_code 5 false d G l C ((Option.some Jvm.ClassFile.FieldType.int)) xp76 22 xB76_2.1 xB76_2.2 := sb_cons (n := 2) hC.1 (tz_cI _) (so_bipush (-2) (-2) (by decide +kernel) (by decide +kernel)) (sb_nil (tz_iret) (st_iret rfl (by decide +kernel)))
theorem xb76_3 (hC : z_HC l G d z_tb C) : z_SB "QuotaPeers" prog_1_method_77_code 5 false d G l C ((Option.some Jvm.ClassFile.FieldType.int)) xp76 25 xB76_3.1 xB76_3.2 := sb_cons (n := 1) hC.1 (tz_ldA _) (so_aload_n 0 (by decide +kernel)) (sb_cons (n := 1) hC.1 (tz_ldJ _) (so_lload_n 1 (by decide +kernel)) (sb_cons (n := 3) hC.1 (tz_crV _ _ _) (xc_56 hC w965 (by decide +kernel)) (sb_nil (tz_nul _ _ _ _) (st_ifnull (off := 6) (by decide) (by decide) (by decide +kernel)))))
theorem xb76_4 (hC : z_HC l G d z_tb C) : z_SB "QuotaPeers" prog_1_method_77_code 5 false d G l C ((Option.some Jvm.ClassFile.FieldType.int)) xp76 33 xB76_4.1 xB76_4.2 := sb_cons (n := 2) hC.1 (tz_cI _) (so_bipush (-3) (-3) (by decide +kernel) (by decide +kernel)) (sb_nil (tz_iret) (st_iret rfl (by decide +kernel)))
theorem xb76_5 (hC : z_HC l G d z_tb C) : z_SB "QuotaPeers" prog_1_method_77_code 5 false d G l C ((Option.some Jvm.ClassFile.FieldType.int)) xp76 36 xB76_5.1 xB76_5.2 := sb_cons (n := 1) hC.1 (tz_ldA _) (so_aload_n 0 (by decide +kernel)) (sb_cons (n := 3) hC.1 (tz_gI _ _) (xg_0_10 w439 (by decide +kernel)) (sb_cons (n := 2) hC.1 (tz_cI _) (so_bipush (16) (16) (by decide +kernel) (by decide +kernel)) (sb_nil (tz_icmp _ _ _ _ _) (st_icmp_ne (off := 6) (by decide) (by decide) (by decide +kernel)))))
theorem xb76_6 (hC : z_HC l G d z_tb C) : z_SB "QuotaPeers" prog_1_method_77_code 5 false d G l C ((Option.some Jvm.ClassFile.FieldType.int)) xp76 45 xB76_6.1 xB76_6.2 := sb_cons (n := 2) hC.1 (tz_cI _) (so_bipush (-4) (-4) (by decide +kernel) (by decide +kernel)) (sb_nil (tz_iret) (st_iret rfl (by decide +kernel)))
theorem xb76_7 (hC : z_HC l G d z_tb C) : z_SB "QuotaPeers" prog_1_method_77_code 5 false d G l C ((Option.some Jvm.ClassFile.FieldType.int)) xp76 48 xB76_7.1 xB76_7.2 := sb_cons (n := 1) hC.1 (tz_ldA _) (so_aload_n 0 (by decide +kernel)) (sb_cons (n := 3) hC.1 (tz_gR _ _) (xg_0_9 w438 (by decide +kernel)) (sb_cons (n := 1) hC.1 (tz_ldA _) (so_aload_n 0 (by decide +kernel)) (sb_cons (n := 1) hC.1 (tz_dupR) (so_dupR (by decide +kernel)) (sb_cons (n := 3) hC.1 (tz_gI _ _) (xg_0_10 w439 (by decide +kernel)) (sb_cons (n := 1) hC.1 (tz_dupx1) (so_dupx1 (by decide +kernel)) (sb_cons (n := 1) hC.1 (tz_cI _) (so_iconst (1) (1) (by decide +kernel) (by decide +kernel)) (sb_cons (n := 1) hC.1 (tz_ii _) (so_iadd (by decide +kernel)) (sb_cons (n := 3) hC.1 (tz_pI _ _) (xp_0_10 w439 (by decide +kernel)) (sb_cons (n := 3) hC.1 (tz_new _) (xn_10 w272 (by decide +kernel)) (sb_cons (n := 1) hC.1 (tz_dupR) (so_dupR (by decide +kernel)) (sb_cons (n := 1) hC.1 (tz_ldJ _) (so_lload_n 1 (by decide +kernel)) (sb_cons (n := 1) hC.1 (tz_ldJ _) (so_lload_n 3 (by decide +kernel)) (sb_cons (n := 3) hC.1 (tz_cvV _ _ _) (xc_186 hC w1094 (by decide +kernel)) (sb_cons (n := 1) hC.1 (tz_astR) (so_aastore (by decide +kernel)) (sb_cons (n := 1) hC.1 (tz_ldA _) (so_aload_n 0 (by decide +kernel)) (sb_cons (n := 3) hC.1 (tz_gI _ _) (xg_0_10 w439 (by decide +kernel)) (sb_nil (tz_iret) (st_iret rfl (by decide +kernel)))))))))))))))))))
theorem xm76 (hC : z_HC l G d z_tb C) : z_SM "QuotaPeers" prog_1_method_77_code 5 false d G l C ((Option.some Jvm.ClassFile.FieldType.int)) xp76 xP76 := by
  intro b
  match b with
  | 0 => exact xb76_0 hC
  | 1 => exact xb76_1 hC
  | 2 => exact xb76_2 hC
  | 3 => exact xb76_3 hC
  | 4 => exact xb76_4 hC
  | 5 => exact xb76_5 hC
  | 6 => exact xb76_6 hC
  | 7 => exact xb76_7 hC
  | _ + 8 => exact sb_dead
end
/-! QuotaPeers.balance(JI)J -/
def xB77_0 : List z_Op × z_Tm := ([zo_ldA 0, zo_ldJ 1, zo_crV 56 1 0, zo_stA 4, zo_ldA 4], zt_null 1 [false, false, false, false, false] 2 [false, false, false, true, true])
def xB77_1 : List z_Op × z_Tm := ([zo_cJ (-1)], zt_lret)
def xB77_2 : List z_Op × z_Tm := ([zo_ldI 3], zt_if (fun x => x = 0) 3 [false, false, false, false, true] 4 [false, false, false, true, true])
def xB77_3 : List z_Op × z_Tm := ([zo_ldA 4, zo_gJ 10 1], zt_goto 9 [false, false, false, false, false])
def xB77_4 : List z_Op × z_Tm := ([zo_ldI 3, zo_cI (1)], zt_icmp (fun x y => x = y) 5 [false, false, false, false, true] 6 [false, false, false, true, true])
def xB77_5 : List z_Op × z_Tm := ([zo_ldA 4, zo_gJ 10 2], zt_goto 9 [false, false, false, false, false])
def xB77_6 : List z_Op × z_Tm := ([zo_ldI 3, zo_cI (2)], zt_icmp (fun x y => x = y) 7 [false, false, false, false, true] 8 [false, false, false, false, false])
def xB77_7 : List z_Op × z_Tm := ([zo_ldA 4, zo_gJ 10 3], zt_goto 9 [false, false, false, false, false])
def xB77_8 : List z_Op × z_Tm := ([zo_cJ (-2)], zt_goto 9 [false, false, false, false, false])
def xB77_9 : List z_Op × z_Tm := ([], zt_lret)
def xp77 : Nat → Nat := fun b => ([0, 12, 16, 20, 28, 33, 41, 46, 54, 57] : List Nat).getD b 0
def xP77 : z_M := fun b => ([xB77_0, xB77_1, xB77_2, xB77_3, xB77_4, xB77_5, xB77_6, xB77_7, xB77_8, xB77_9] : List (List z_Op × z_Tm)).getD b z_dead
section
variable {d : Nat} {G : z_G} {l : Launch} {C : z_O}
theorem xb77_0 (hC : z_HC l G d z_tb C) : z_SB "QuotaPeers" prog_1_method_78_code 5 false d G l C ((Option.some Jvm.ClassFile.FieldType.long)) xp77 0 xB77_0.1 xB77_0.2 := sb_cons (n := 1) hC.1 (tz_ldA _) (so_aload_n 0 (by decide +kernel)) (sb_cons (n := 1) hC.1 (tz_ldJ _) (so_lload_n 1 (by decide +kernel)) (sb_cons (n := 3) hC.1 (tz_crV _ _ _) (xc_56 hC w965 (by decide +kernel)) (sb_cons (n := 2) hC.1 (tz_stA _) (so_astore 4 (by decide) (by decide +kernel)) (sb_cons (n := 2) hC.1 (tz_ldA _) (so_aload 4 (by decide +kernel)) (sb_nil (tz_nul _ _ _ _) (st_ifnonnull (off := 7) (by decide) (by decide) (by decide +kernel)))))))
theorem xb77_1 (hC : z_HC l G d z_tb C) : z_SB "QuotaPeers" prog_1_method_78_code 5 false d G l C ((Option.some Jvm.ClassFile.FieldType.long)) xp77 12 xB77_1.1 xB77_1.2 := sb_cons (n := 3) hC.1 (tz_cJ _) (so_ldc2 536 (-1) w995 (by decide +kernel)) (sb_nil (tz_lret) (st_lret rfl (by decide +kernel)))
theorem xb77_2 (hC : z_HC l G d z_tb C) : z_SB "QuotaPeers" prog_1_method_78_code 5 false d G l C ((Option.some Jvm.ClassFile.FieldType.long)) xp77 16 xB77_2.1 xB77_2.2 := sb_cons (n := 1) hC.1 (tz_ldI _) (so_iload_n 3 (by decide +kernel)) (sb_nil (tz_if _ _ _ _ _) (st_if_ne (off := 11) (by decide) (by decide) (by decide +kernel)))
theorem xb77_3 (hC : z_HC l G d z_tb C) : z_SB "QuotaPeers" prog_1_method_78_code 5 false d G l C ((Option.some Jvm.ClassFile.FieldType.long)) xp77 20 xB77_3.1 xB77_3.2 := sb_cons (n := 2) hC.1 (tz_ldA _) (so_aload 4 (by decide +kernel)) (sb_cons (n := 3) hC.1 (tz_gJ _ _) (xgN_10_1 w1101 (by decide +kernel)) (sb_nil (tz_goto _ _) (st_goto (off := 32) (by decide) (by decide +kernel))))
theorem xb77_4 (hC : z_HC l G d z_tb C) : z_SB "QuotaPeers" prog_1_method_78_code 5 false d G l C ((Option.some Jvm.ClassFile.FieldType.long)) xp77 28 xB77_4.1 xB77_4.2 := sb_cons (n := 1) hC.1 (tz_ldI _) (so_iload_n 3 (by decide +kernel)) (sb_cons (n := 1) hC.1 (tz_cI _) (so_iconst (1) (1) (by decide +kernel) (by decide +kernel)) (sb_nil (tz_icmp _ _ _ _ _) (st_icmp_ne (off := 11) (by decide) (by decide) (by decide +kernel))))
theorem xb77_5 (hC : z_HC l G d z_tb C) : z_SB "QuotaPeers" prog_1_method_78_code 5 false d G l C ((Option.some Jvm.ClassFile.FieldType.long)) xp77 33 xB77_5.1 xB77_5.2 := sb_cons (n := 2) hC.1 (tz_ldA _) (so_aload 4 (by decide +kernel)) (sb_cons (n := 3) hC.1 (tz_gJ _ _) (xgN_10_2 w1104 (by decide +kernel)) (sb_nil (tz_goto _ _) (st_goto (off := 19) (by decide) (by decide +kernel))))
theorem xb77_6 (hC : z_HC l G d z_tb C) : z_SB "QuotaPeers" prog_1_method_78_code 5 false d G l C ((Option.some Jvm.ClassFile.FieldType.long)) xp77 41 xB77_6.1 xB77_6.2 := sb_cons (n := 1) hC.1 (tz_ldI _) (so_iload_n 3 (by decide +kernel)) (sb_cons (n := 1) hC.1 (tz_cI _) (so_iconst (2) (2) (by decide +kernel) (by decide +kernel)) (sb_nil (tz_icmp _ _ _ _ _) (st_icmp_ne (off := 11) (by decide) (by decide) (by decide +kernel))))
theorem xb77_7 (hC : z_HC l G d z_tb C) : z_SB "QuotaPeers" prog_1_method_78_code 5 false d G l C ((Option.some Jvm.ClassFile.FieldType.long)) xp77 46 xB77_7.1 xB77_7.2 := sb_cons (n := 2) hC.1 (tz_ldA _) (so_aload 4 (by decide +kernel)) (sb_cons (n := 3) hC.1 (tz_gJ _ _) (xgN_10_3 w1106 (by decide +kernel)) (sb_nil (tz_goto _ _) (st_goto (off := 6) (by decide) (by decide +kernel))))
theorem xb77_8 (hC : z_HC l G d z_tb C) : z_SB "QuotaPeers" prog_1_method_78_code 5 false d G l C ((Option.some Jvm.ClassFile.FieldType.long)) xp77 54 xB77_8.1 xB77_8.2 := sb_cons (n := 3) hC.1 (tz_cJ _) (so_ldc2 662 (-2) w1120 (by decide +kernel)) (sb_nil (tz_goto _ _) (st_fall (by decide)))
theorem xb77_9 (hC : z_HC l G d z_tb C) : z_SB "QuotaPeers" prog_1_method_78_code 5 false d G l C ((Option.some Jvm.ClassFile.FieldType.long)) xp77 57 xB77_9.1 xB77_9.2 := sb_nil (tz_lret) (st_lret rfl (by decide +kernel))
theorem xm77 (hC : z_HC l G d z_tb C) : z_SM "QuotaPeers" prog_1_method_78_code 5 false d G l C ((Option.some Jvm.ClassFile.FieldType.long)) xp77 xP77 := by
  intro b
  match b with
  | 0 => exact xb77_0 hC
  | 1 => exact xb77_1 hC
  | 2 => exact xb77_2 hC
  | 3 => exact xb77_3 hC
  | 4 => exact xb77_4 hC
  | 5 => exact xb77_5 hC
  | 6 => exact xb77_6 hC
  | 7 => exact xb77_7 hC
  | 8 => exact xb77_8 hC
  | 9 => exact xb77_9 hC
  | _ + 10 => exact sb_dead
end
/-! QuotaPeers.sessions()I -/
def xB78_0 : List z_Op × z_Tm := ([zo_ldA 0, zo_gI 0 12], zt_iret)
def xp78 : Nat → Nat := fun b => ([0] : List Nat).getD b 0
def xP78 : z_M := fun b => ([xB78_0] : List (List z_Op × z_Tm)).getD b z_dead
section
variable {d : Nat} {G : z_G} {l : Launch} {C : z_O}
theorem xb78_0 (hC : z_HC l G d z_tb C) : z_SB "QuotaPeers" prog_1_method_79_code 1 false d G l C ((Option.some Jvm.ClassFile.FieldType.int)) xp78 0 xB78_0.1 xB78_0.2 := sb_cons (n := 1) hC.1 (tz_ldA _) (so_aload_n 0 (by decide +kernel)) (sb_cons (n := 3) hC.1 (tz_gI _ _) (xg_0_12 w441 (by decide +kernel)) (sb_nil (tz_iret) (st_iret rfl (by decide +kernel))))
theorem xm78 (hC : z_HC l G d z_tb C) : z_SM "QuotaPeers" prog_1_method_79_code 1 false d G l C ((Option.some Jvm.ClassFile.FieldType.int)) xp78 xP78 := by
  intro b
  match b with
  | 0 => exact xb78_0 hC
  | _ + 1 => exact sb_dead
end
/-! QuotaPeers.session(II)I -/
def xB79_0 : List z_Op × z_Tm := ([zo_ldI 1, zo_i2l, zo_cJ (0), zo_ldA 0, zo_gI 0 12, zo_cI (1), zo_ii ((· - ·)), zo_i2l, zo_crS 2 3], zt_if (fun x => x = 0) 1 [false, false, false, false] 2 [true, true, true, false])
def xB79_1 : List z_Op × z_Tm := ([zo_cI (-1)], zt_iret)
def xB79_2 : List z_Op × z_Tm := ([zo_ldA 0, zo_gR 0 11, zo_ldI 1, zo_aldR, zo_stA 3, zo_ldI 2], zt_sw [(0, 3, [false, false, false, true]), (1, 4, [false, false, false, true]), (2, 5, [false, false, false, true]), (3, 6, [false, false, false, true])] (7, [false, false, false, false]))
def xB79_3 : List z_Op × z_Tm := ([zo_ldA 3, zo_gR 5 0, zo_gI 1 1], zt_iret)
def xB79_4 : List z_Op × z_Tm := ([zo_ldA 3, zo_gJ 5 5, zo_l2i], zt_iret)
def xB79_5 : List z_Op × z_Tm := ([zo_ldA 3, zo_gI 5 6], zt_iret)
def xB79_6 : List z_Op × z_Tm := ([zo_ldA 3, zo_gI 5 7], zt_iret)
def xB79_7 : List z_Op × z_Tm := ([zo_cI (-2)], zt_iret)
def xp79 : Nat → Nat := fun b => ([0, 16, 18, 56, 64, 70, 75, 80] : List Nat).getD b 0
def xP79 : z_M := fun b => ([xB79_0, xB79_1, xB79_2, xB79_3, xB79_4, xB79_5, xB79_6, xB79_7] : List (List z_Op × z_Tm)).getD b z_dead
section
variable {d : Nat} {G : z_G} {l : Launch} {C : z_O}
theorem xb79_0 (hC : z_HC l G d z_tb C) : z_SB "QuotaPeers" prog_1_method_80_code 4 false d G l C ((Option.some Jvm.ClassFile.FieldType.int)) xp79 0 xB79_0.1 xB79_0.2 := sb_cons (n := 1) hC.1 (tz_ldI _) (so_iload_n 1 (by decide +kernel)) (sb_cons (n := 1) hC.1 (tz_i2l) (so_i2l (by decide +kernel)) (sb_cons (n := 1) hC.1 (tz_cJ _) (so_lconst 0 (0) (by decide +kernel) (by decide +kernel)) (sb_cons (n := 1) hC.1 (tz_ldA _) (so_aload_n 0 (by decide +kernel)) (sb_cons (n := 3) hC.1 (tz_gI _ _) (xg_0_12 w441 (by decide +kernel)) (sb_cons (n := 1) hC.1 (tz_cI _) (so_iconst (1) (1) (by decide +kernel) (by decide +kernel)) (sb_cons (n := 1) hC.1 (tz_ii _) (so_isub (by decide +kernel)) (sb_cons (n := 1) hC.1 (tz_i2l) (so_i2l (by decide +kernel)) (sb_cons (n := 3) hC.1 (tz_crS _ _) (xc_2 hC w602 (by decide +kernel)) (sb_nil (tz_if _ _ _ _ _) (st_if_ne (off := 5) (by decide) (by decide) (by decide +kernel)))))))))))
theorem xb79_1 (hC : z_HC l G d z_tb C) : z_SB "QuotaPeers" prog_1_method_80_code 4 false d G l C ((Option.some Jvm.ClassFile.FieldType.int)) xp79 16 xB79_1.1 xB79_1.2 := sb_cons (n := 1) hC.1 (tz_cI _) (so_iconst (-1) (-1) (by decide +kernel) (by decide +kernel)) (sb_nil (tz_iret) (st_iret rfl (by decide +kernel)))
theorem xb79_2 (hC : z_HC l G d z_tb C) : z_SB "QuotaPeers" prog_1_method_80_code 4 false d G l C ((Option.some Jvm.ClassFile.FieldType.int)) xp79 18 xB79_2.1 xB79_2.2 := sb_cons (n := 1) hC.1 (tz_ldA _) (so_aload_n 0 (by decide +kernel)) (sb_cons (n := 3) hC.1 (tz_gR _ _) (xg_0_11 w440 (by decide +kernel)) (sb_cons (n := 1) hC.1 (tz_ldI _) (so_iload_n 1 (by decide +kernel)) (sb_cons (n := 1) hC.1 (tz_aldR) (so_aaload (by decide +kernel)) (sb_cons (n := 1) hC.1 (tz_stA _) (so_astore_n 3 (by decide) (by decide +kernel)) (sb_cons (n := 1) hC.1 (tz_ldI _) (so_iload_n 2 (by decide +kernel)) (sb_nil (tz_sw _ _) (st_table (dflt := 54) (lo := 0) (hi := 3) (offs := #[30, 38, 44, 49]) (len := 30) (by decide +kernel) (by decide) (by decide +kernel))))))))
theorem xb79_3 (hC : z_HC l G d z_tb C) : z_SB "QuotaPeers" prog_1_method_80_code 4 false d G l C ((Option.some Jvm.ClassFile.FieldType.int)) xp79 56 xB79_3.1 xB79_3.2 := sb_cons (n := 1) hC.1 (tz_ldA _) (so_aload_n 3 (by decide +kernel)) (sb_cons (n := 3) hC.1 (tz_gR _ _) (xgN_5_0 w340 (by decide +kernel)) (sb_cons (n := 3) hC.1 (tz_gI _ _) (xgN_1_1 w166 (by decide +kernel)) (sb_nil (tz_iret) (st_iret rfl (by decide +kernel)))))
theorem xb79_4 (hC : z_HC l G d z_tb C) : z_SB "QuotaPeers" prog_1_method_80_code 4 false d G l C ((Option.some Jvm.ClassFile.FieldType.int)) xp79 64 xB79_4.1 xB79_4.2 := sb_cons (n := 1) hC.1 (tz_ldA _) (so_aload_n 3 (by decide +kernel)) (sb_cons (n := 3) hC.1 (tz_gJ _ _) (xgN_5_5 w349 (by decide +kernel)) (sb_cons (n := 1) hC.1 (tz_l2i) (so_l2i (by decide +kernel)) (sb_nil (tz_iret) (st_iret rfl (by decide +kernel)))))
theorem xb79_5 (hC : z_HC l G d z_tb C) : z_SB "QuotaPeers" prog_1_method_80_code 4 false d G l C ((Option.some Jvm.ClassFile.FieldType.int)) xp79 70 xB79_5.1 xB79_5.2 := sb_cons (n := 1) hC.1 (tz_ldA _) (so_aload_n 3 (by decide +kernel)) (sb_cons (n := 3) hC.1 (tz_gI _ _) (xgN_5_6 w350 (by decide +kernel)) (sb_nil (tz_iret) (st_iret rfl (by decide +kernel))))
theorem xb79_6 (hC : z_HC l G d z_tb C) : z_SB "QuotaPeers" prog_1_method_80_code 4 false d G l C ((Option.some Jvm.ClassFile.FieldType.int)) xp79 75 xB79_6.1 xB79_6.2 := sb_cons (n := 1) hC.1 (tz_ldA _) (so_aload_n 3 (by decide +kernel)) (sb_cons (n := 3) hC.1 (tz_gI _ _) (xgN_5_7 w351 (by decide +kernel)) (sb_nil (tz_iret) (st_iret rfl (by decide +kernel))))
theorem xb79_7 (hC : z_HC l G d z_tb C) : z_SB "QuotaPeers" prog_1_method_80_code 4 false d G l C ((Option.some Jvm.ClassFile.FieldType.int)) xp79 80 xB79_7.1 xB79_7.2 := sb_cons (n := 2) hC.1 (tz_cI _) (so_bipush (-2) (-2) (by decide +kernel) (by decide +kernel)) (sb_nil (tz_iret) (st_iret rfl (by decide +kernel)))
theorem xm79 (hC : z_HC l G d z_tb C) : z_SM "QuotaPeers" prog_1_method_80_code 4 false d G l C ((Option.some Jvm.ClassFile.FieldType.int)) xp79 xP79 := by
  intro b
  match b with
  | 0 => exact xb79_0 hC
  | 1 => exact xb79_1 hC
  | 2 => exact xb79_2 hC
  | 3 => exact xb79_3 hC
  | 4 => exact xb79_4 hC
  | 5 => exact xb79_5 hC
  | 6 => exact xb79_6 hC
  | 7 => exact xb79_7 hC
  | _ + 8 => exact sb_dead
end
/-! QuotaPeers.granted(I)J -/
def xB80_0 : List z_Op × z_Tm := ([zo_ldI 1, zo_i2l, zo_cJ (0), zo_ldA 0, zo_gI 0 12, zo_cI (1), zo_ii ((· - ·)), zo_i2l, zo_crS 2 3], zt_if (fun x => x = 0) 2 [false, false] 1 [true, true])
def xB80_1 : List z_Op × z_Tm := ([zo_ldA 0, zo_gR 0 11, zo_ldI 1, zo_aldR, zo_gJ 5 4], zt_goto 3 [false, false])
def xB80_2 : List z_Op × z_Tm := ([zo_cJ (-1)], zt_goto 3 [false, false])
def xB80_3 : List z_Op × z_Tm := ([], zt_lret)
def xp80 : Nat → Nat := fun b => ([0, 16, 28, 31] : List Nat).getD b 0
def xP80 : z_M := fun b => ([xB80_0, xB80_1, xB80_2, xB80_3] : List (List z_Op × z_Tm)).getD b z_dead
section
variable {d : Nat} {G : z_G} {l : Launch} {C : z_O}
theorem xb80_0 (hC : z_HC l G d z_tb C) : z_SB "QuotaPeers" prog_1_method_81_code 2 false d G l C ((Option.some Jvm.ClassFile.FieldType.long)) xp80 0 xB80_0.1 xB80_0.2 := sb_cons (n := 1) hC.1 (tz_ldI _) (so_iload_n 1 (by decide +kernel)) (sb_cons (n := 1) hC.1 (tz_i2l) (so_i2l (by decide +kernel)) (sb_cons (n := 1) hC.1 (tz_cJ _) (so_lconst 0 (0) (by decide +kernel) (by decide +kernel)) (sb_cons (n := 1) hC.1 (tz_ldA _) (so_aload_n 0 (by decide +kernel)) (sb_cons (n := 3) hC.1 (tz_gI _ _) (xg_0_12 w441 (by decide +kernel)) (sb_cons (n := 1) hC.1 (tz_cI _) (so_iconst (1) (1) (by decide +kernel) (by decide +kernel)) (sb_cons (n := 1) hC.1 (tz_ii _) (so_isub (by decide +kernel)) (sb_cons (n := 1) hC.1 (tz_i2l) (so_i2l (by decide +kernel)) (sb_cons (n := 3) hC.1 (tz_crS _ _) (xc_2 hC w602 (by decide +kernel)) (sb_nil (tz_if _ _ _ _ _) (st_if_eq (off := 15) (by decide) (by decide) (by decide +kernel)))))))))))
theorem xb80_1 (hC : z_HC l G d z_tb C) : z_SB "QuotaPeers" prog_1_method_81_code 2 false d G l C ((Option.some Jvm.ClassFile.FieldType.long)) xp80 16 xB80_1.1 xB80_1.2 := sb_cons (n := 1) hC.1 (tz_ldA _) (so_aload_n 0 (by decide +kernel)) (sb_cons (n := 3) hC.1 (tz_gR _ _) (xg_0_11 w440 (by decide +kernel)) (sb_cons (n := 1) hC.1 (tz_ldI _) (so_iload_n 1 (by decide +kernel)) (sb_cons (n := 1) hC.1 (tz_aldR) (so_aaload (by decide +kernel)) (sb_cons (n := 3) hC.1 (tz_gJ _ _) (xgN_5_4 w348 (by decide +kernel)) (sb_nil (tz_goto _ _) (st_goto (off := 6) (by decide) (by decide +kernel)))))))
theorem xb80_2 (hC : z_HC l G d z_tb C) : z_SB "QuotaPeers" prog_1_method_81_code 2 false d G l C ((Option.some Jvm.ClassFile.FieldType.long)) xp80 28 xB80_2.1 xB80_2.2 := sb_cons (n := 3) hC.1 (tz_cJ _) (so_ldc2 536 (-1) w995 (by decide +kernel)) (sb_nil (tz_goto _ _) (st_fall (by decide)))
theorem xb80_3 (hC : z_HC l G d z_tb C) : z_SB "QuotaPeers" prog_1_method_81_code 2 false d G l C ((Option.some Jvm.ClassFile.FieldType.long)) xp80 31 xB80_3.1 xB80_3.2 := sb_nil (tz_lret) (st_lret rfl (by decide +kernel))
theorem xm80 (hC : z_HC l G d z_tb C) : z_SM "QuotaPeers" prog_1_method_81_code 2 false d G l C ((Option.some Jvm.ClassFile.FieldType.long)) xp80 xP80 := by
  intro b
  match b with
  | 0 => exact xb80_0 hC
  | 1 => exact xb80_1 hC
  | 2 => exact xb80_2 hC
  | 3 => exact xb80_3 hC
  | _ + 4 => exact sb_dead
end
