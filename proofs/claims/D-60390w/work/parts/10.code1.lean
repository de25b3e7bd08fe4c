/-- TowerComputer.system()[Ljava/lang/String; -/
def m_0_0 : List am_B := [
  (false, [(.bipush 47, []), (.anewarray 1, [10]), (.dup, []), (.iconst 0, []), (.ldc 3, [1, 86]), (.aastore, [10]), (.dup, []), (.iconst 1, []), (.ldc 5, [1, 87]), (.aastore, [10]), (.dup, []), (.iconst 2, []), (.ldc 7, [1, 88]), (.aastore, [10]), (.dup, []), (.iconst 3, []), (.ldc 9, [1, 89]), (.aastore, [10]), (.dup, []), (.iconst 4, []), (.ldc 11, [1, 90]), (.aastore, [10]), (.dup, []), (.iconst 5, []), (.ldc 13, [1, 91]), (.aastore, [10]), (.dup, []), (.bipush 6, []), (.ldc 15, [1, 92]), (.aastore, [10]), (.dup, []), (.bipush 7, []), (.ldc 17, [1, 93]), (.aastore, [10]), (.dup, []), (.bipush 8, []), (.ldc 19, [1, 94]), (.aastore, [10]), (.dup, []), (.bipush 9, []), (.ldc 21, [1, 95]), (.aastore, [10]), (.dup, []), (.bipush 10, []), (.ldc 23, [1, 96]), (.aastore, [10]), (.dup, []), (.bipush 11, []), (.ldc 25, [1, 97]), (.aastore, [10]), (.dup, []), (.bipush 12, []), (.ldc 27, [1, 98]), (.aastore, [10]), (.dup, []), (.bipush 13, []), (.ldc 29, [1, 99]), (.aastore, [10]), (.dup, []), (.bipush 14, []), (.ldc 31, [1, 100]), (.aastore, [10]), (.dup, []), (.bipush 15, []), (.ldc 33, [1, 101]), (.aastore, [10]), (.dup, []), (.bipush 16, []), (.ldc 35, [1, 102]), (.aastore, [10]), (.dup, []), (.bipush 17, []), (.ldc 37, [1, 103]), (.aastore, [10]), (.dup, []), (.bipush 18, []), (.ldc 39, [1, 104]), (.aastore, [10]), (.dup, []), (.bipush 19, []), (.ldc 41, [1, 105]), (.aastore, [10]), (.dup, []), (.bipush 20, []), (.ldc 43, [1, 106]), (.aastore, [10]), (.dup, []), (.bipush 21, []), (.ldc 45, [1, 107]), (.aastore, [10]), (.dup, []), (.bipush 22, []), (.ldc 47, [1, 108]), (.aastore, [10]), (.dup, []), (.bipush 23, []), (.ldc 49, [1, 109]), (.aastore, [10]), (.dup, []), (.bipush 24, []), (.ldc 51, [1, 110]), (.aastore, [10]), (.dup, []), (.bipush 25, []), (.ldc 53, [1, 111]), (.aastore, [10]), (.dup, []), (.bipush 26, []), (.ldc 55, [1, 112]), (.aastore, [10]), (.dup, []), (.bipush 27, []), (.ldc 57, [1, 113]), (.aastore, [10]), (.dup, []), (.bipush 28, []), (.ldc 59, [1, 114]), (.aastore, [10]), (.dup, []), (.bipush 29, []), (.ldc 61, [1, 115]), (.aastore, [10]), (.dup, []), (.bipush 30, []), (.ldc 63, [1, 116]), (.aastore, [10]), (.dup, []), (.bipush 31, []), (.ldc 65, [1, 117]), (.aastore, [10]), (.dup, []), (.bipush 32, []), (.ldc 67, [1, 118]), (.aastore, [10]), (.dup, []), (.bipush 33, []), (.ldc 69, [1, 119]), (.aastore, [10]), (.dup, []), (.bipush 34, []), (.ldc 71, [1, 120]), (.aastore, [10]), (.dup, []), (.bipush 35, []), (.ldc 73, [1, 121]), (.aastore, [10]), (.dup, []), (.bipush 36, []), (.ldc 75, [1, 122]), (.aastore, [10]), (.dup, []), (.bipush 37, []), (.ldc 77, [1, 123]), (.aastore, [10]), (.dup, []), (.bipush 38, []), (.ldc 79, [1, 124]), (.aastore, [10]), (.dup, []), (.bipush 39, []), (.ldc 81, [1, 125]), (.aastore, [10]), (.dup, []), (.bipush 40, []), (.ldc 83, [1, 126]), (.aastore, [10]), (.dup, []), (.bipush 41, []), (.ldc 85, [1, 127]), (.aastore, [10]), (.dup, []), (.bipush 42, []), (.ldc 87, [1, 128]), (.aastore, [10]), (.dup, []), (.bipush 43, []), (.ldc 89, [1, 129]), (.aastore, [10]), (.dup, []), (.bipush 44, []), (.ldc 91, [1, 130]), (.aastore, [10]), (.dup, []), (.bipush 45, []), (.ldc 93, [1, 131]), (.aastore, [10]), (.dup, []), (.bipush 46, []), (.ldc 95, [1, 132]), (.aastore, [10]), (.areturn, [])])]
/-- TowerComputer.<init>()V -/
def m_0_1 : List am_B := [
  (false, [(.aload_n 0, []), (.invokespecial 97, [3, 0, 0, 1, 0, 0, 0]), (.aload_n 0, []), (.sipush 4000, []), (.newarray .byte, [2]), (.putfield 105, [0, 0, 1]), (.aload_n 0, []), (.sipush 16000, []), (.newarray .byte, [2]), (.putfield 109, [0, 1, 1]), (.aload_n 0, []), (.iconst (-1), []), (.putfield 112, [0, 3, 0]), (.aload_n 0, []), (.new 116, [9]), (.dup, []), (.invokespecial 118, [2, 9, 0, 1, 0, 0, 0]), (.putfield 119, [0, 8, 1]), (.aload_n 0, []), (.new 123, [16]), (.dup, []), (.invokespecial 125, [2, 16, 0, 1, 0, 0, 0]), (.putfield 126, [0, 9, 1]), (.aload_n 0, []), (.new 130, [14]), (.dup, []), (.invokespecial 132, [2, 14, 0, 1, 0, 0, 0]), (.putfield 133, [0, 12, 1]), (.aload_n 0, []), (.new 137, [10]), (.dup, []), (.aload_n 0, []), (.getfield 133, [0, 12, 1]), (.invokespecial 139, [2, 10, 0, 2, 0, 0, 0]), (.putfield 142, [0, 13, 1]), (.aload_n 0, []), (.sipush 200, []), (.newarray .byte, [2]), (.putfield 146, [0, 14, 1]), (.aload_n 0, []), (.new 149, [11]), (.dup, []), (.aload_n 0, []), (.getfield 109, [0, 1, 1]), (.invokespecial 151, [2, 11, 0, 2, 0, 0, 0]), (.putfield 154, [0, 20, 1]), (.aload_n 0, []), (.new 158, [1]), (.dup, []), (.aload_n 0, []), (.getfield 154, [0, 20, 1]), (.invokespecial 160, [2, 1, 0, 2, 0, 0, 0]), (.putfield 163, [0, 21, 1]), (.aload_n 0, []), (.new 167, [4]), (.dup, []), (.aload_n 0, []), (.getfield 109, [0, 1, 1]), (.invokespecial 169, [2, 4, 0, 2, 0, 0, 0]), (.putfield 170, [0, 22, 1]), (.aload_n 0, []), (.new 174, [2]), (.dup, []), (.aload_n 0, []), (.getfield 170, [0, 22, 1]), (.invokespecial 176, [2, 2, 0, 2, 0, 0, 0]), (.putfield 179, [0, 23, 1]), (.bipush 21, []), (.anewarray 1, [10]), (.dup, []), (.iconst 0, []), (.ldc 183, [1, 50]), (.aastore, [10]), (.dup, []), (.iconst 1, []), (.ldc 185, [1, 51]), (.aastore, [10]), (.dup, []), (.iconst 2, []), (.ldc 187, [1, 52]), (.aastore, [10]), (.dup, []), (.iconst 3, []), (.ldc 189, [1, 53]), (.aastore, [10]), (.dup, []), (.iconst 4, []), (.ldc 191, [1, 54]), (.aastore, [10]), (.dup, []), (.iconst 5, []), (.ldc 193, [1, 55]), (.aastore, [10]), (.dup, []), (.bipush 6, []), (.ldc 195, [1, 56]), (.aastore, [10]), (.dup, []), (.bipush 7, []), (.ldc 197, [1, 57]), (.aastore, [10]), (.dup, []), (.bipush 8, []), (.ldc 199, [1, 58]), (.aastore, [10]), (.dup, []), (.bipush 9, []), (.ldc 201, [1, 59]), (.aastore, [10]), (.dup, []), (.bipush 10, []), (.ldc 203, [1, 60]), (.aastore, [10]), (.dup, []), (.bipush 11, []), (.ldc 205, [1, 61]), (.aastore, [10]), (.dup, []), (.bipush 12, []), (.ldc 207, [1, 62]), (.aastore, [10]), (.dup, []), (.bipush 13, []), (.ldc 209, [1, 63]), (.aastore, [10]), (.dup, []), (.bipush 14, []), (.ldc 211, [1, 64]), (.aastore, [10]), (.dup, []), (.bipush 15, []), (.ldc 213, [1, 65]), (.aastore, [10]), (.dup, []), (.bipush 16, []), (.ldc 215, [1, 66]), (.aastore, [10]), (.dup, []), (.bipush 17, []), (.ldc 217, [1, 67]), (.aastore, [10]), (.dup, []), (.bipush 18, []), (.ldc 219, [1, 68]), (.aastore, [10]), (.dup, []), (.bipush 19, []), (.ldc 221, [1, 69]), (.aastore, [10]), (.dup, []), (.bipush 20, []), (.ldc 223, [1, 70]), (.aastore, [10]), (.astore_n 1, []), (.iconst 0, []), (.istore_n 2, []), (.nop, [1])]),
  (true, [(.iload_n 2, []), (.aload_n 1, []), (.arraylength, [0, 10]), (.if_icmp .ge 17, [2]), (.aload_n 0, []), (.aload_n 1, []), (.iload_n 2, []), (.aaload, [10]), (.invokevirtual 225, [1, 0, 4, 2, 1, 0, 1]), (.pop, []), (.iinc 2 1, []), (.goto (-17), [1])]),
  (false, [(.bipush 14, []), (.newarray .int, [1]), (.dup, []), (.iconst 0, []), (.aload_n 0, []), (.ldc 229, [1, 71]), (.invokevirtual 225, [1, 0, 4, 2, 1, 0, 1]), (.iastore, []), (.dup, []), (.iconst 1, []), (.aload_n 0, []), (.ldc 231, [1, 72]), (.invokevirtual 225, [1, 0, 4, 2, 1, 0, 1]), (.iastore, []), (.dup, []), (.iconst 2, []), (.aload_n 0, []), (.ldc 233, [1, 73]), (.invokevirtual 225, [1, 0, 4, 2, 1, 0, 1]), (.iastore, []), (.dup, []), (.iconst 3, []), (.aload_n 0, []), (.ldc 235, [1, 74]), (.invokevirtual 225, [1, 0, 4, 2, 1, 0, 1]), (.iastore, []), (.dup, []), (.iconst 4, []), (.aload_n 0, []), (.ldc 237, [1, 75]), (.invokevirtual 225, [1, 0, 4, 2, 1, 0, 1]), (.iastore, []), (.dup, []), (.iconst 5, []), (.aload_n 0, []), (.ldc 239, [1, 76]), (.invokevirtual 225, [1, 0, 4, 2, 1, 0, 1]), (.iastore, []), (.dup, []), (.bipush 6, []), (.aload_n 0, []), (.ldc 241, [1, 77]), (.invokevirtual 225, [1, 0, 4, 2, 1, 0, 1]), (.iastore, []), (.dup, []), (.bipush 7, []), (.aload_n 0, []), (.ldc 243, [1, 78]), (.invokevirtual 225, [1, 0, 4, 2, 1, 0, 1]), (.iastore, []), (.dup, []), (.bipush 8, []), (.aload_n 0, []), (.ldc 245, [1, 79]), (.invokevirtual 225, [1, 0, 4, 2, 1, 0, 1]), (.iastore, []), (.dup, []), (.bipush 9, []), (.aload_n 0, []), (.ldc 247, [1, 80]), (.invokevirtual 225, [1, 0, 4, 2, 1, 0, 1]), (.iastore, []), (.dup, []), (.bipush 10, []), (.aload_n 0, []), (.ldc 249, [1, 81]), (.invokevirtual 225, [1, 0, 4, 2, 1, 0, 1]), (.iastore, []), (.dup, []), (.bipush 11, []), (.aload_n 0, []), (.ldc 251, [1, 82]), (.invokevirtual 225, [1, 0, 4, 2, 1, 0, 1]), (.iastore, []), (.dup, []), (.bipush 12, []), (.aload_n 0, []), (.ldc 253, [1, 83]), (.invokevirtual 225, [1, 0, 4, 2, 1, 0, 1]), (.iastore, []), (.dup, []), (.bipush 13, []), (.aload_n 0, []), (.ldc 255, [1, 84]), (.invokevirtual 225, [1, 0, 4, 2, 1, 0, 1]), (.iastore, []), (.astore_n 2, []), (.aload_n 0, []), (.aload_n 2, []), (.putfield 257, [0, 10, 1]), (.aload_n 0, []), (.new 261, [7]), (.dup, []), (.aload_n 0, []), (.getfield 119, [0, 8, 1]), (.aload_n 0, []), (.getfield 126, [0, 9, 1]), (.aload_n 0, []), (.getfield 109, [0, 1, 1]), (.aload_n 2, []), (.invokespecial 263, [2, 7, 0, 5, 0, 0, 0]), (.putfield 266, [0, 11, 1]), (.iconst 0, []), (.istore_n 3, []), (.invokestatic 270, [0, 0, 0, 0, 3, 0, 0]), (.astore 4, []), (.iconst 0, []), (.istore 5, []), (.nop, [3])]),
  (true, [(.iload 5, []), (.aload 4, []), (.arraylength, [0, 10]), (.if_icmp .ge 20, [4]), (.aload_n 0, []), (.aload 4, []), (.iload 5, []), (.aaload, [10]), (.iload_n 3, []), (.invokevirtual 274, [1, 0, 3, 3, 1, 0, 1]), (.istore_n 3, []), (.iinc 5 1, []), (.goto (-22), [3])]),
  (false, [(.aload_n 0, []), (.getfield 266, [0, 11, 1]), (.iload_n 3, []), (.iconst 1, []), (.invokevirtual 278, [1, 7, 26, 3, 1, 0, 1]), (.pop, []), (.aload_n 0, []), (.invokevirtual 282, [1, 0, 2, 1, 0, 0, 0]), (.aload_n 0, []), (.getfield 133, [0, 12, 1]), (.invokevirtual 285, [1, 14, 16, 1, 0, 0, 1]), (.aload_n 0, []), (.getfield 133, [0, 12, 1]), (.aload_n 0, []), (.getfield 126, [0, 9, 1]), (.iconst 0, []), (.aload_n 0, []), (.getfield 266, [0, 11, 1]), (.getfield 288, [7, 2, 1]), (.iconst 0, []), (.invokevirtual 292, [1, 14, 29, 5, 0, 0, 1]), (.aload_n 0, []), (.aload_n 0, []), (.getfield 126, [0, 9, 1]), (.getfield 296, [16, 3, 0]), (.putfield 299, [0, 4, 0]), (.aload_n 0, []), (.aload_n 0, []), (.getfield 126, [0, 9, 1]), (.getfield 302, [16, 4, 0]), (.putfield 305, [0, 7, 0]), (.aload_n 0, []), (.aload_n 0, []), (.getfield 133, [0, 12, 1]), (.getfield 308, [14, 3, 0]), (.putfield 309, [0, 5, 0]), (.aload_n 0, []), (.aload_n 0, []), (.getfield 119, [0, 8, 1]), (.getfield 312, [9, 3, 0]), (.putfield 315, [0, 6, 0]), (.return_, [])])]
/-- TowerComputer.numbers()V -/
def m_0_2 : List am_B := [
  (false, [(.bipush 8, []), (.anewarray 318, [11]), (.dup, []), (.iconst 0, []), (.bipush 7, []), (.anewarray 1, [10]), (.dup, []), (.iconst 0, []), (.ldc 243, [1, 78]), (.aastore, [10]), (.dup, []), (.iconst 1, []), (.ldc_w 320, [1, 133]), (.aastore, [10]), (.dup, []), (.iconst 2, []), (.ldc_w 322, [1, 134]), (.aastore, [10]), (.dup, []), (.iconst 3, []), (.ldc_w 324, [1, 135]), (.aastore, [10]), (.dup, []), (.iconst 4, []), (.ldc 245, [1, 79]), (.aastore, [10]), (.dup, []), (.iconst 5, []), (.ldc 247, [1, 80]), (.aastore, [10]), (.dup, []), (.bipush 6, []), (.ldc_w 326, [1, 136]), (.aastore, [10]), (.aastore, [11]), (.dup, []), (.iconst 1, []), (.iconst 5, []), (.anewarray 1, [10]), (.dup, []), (.iconst 0, []), (.ldc 233, [1, 73]), (.aastore, [10]), (.dup, []), (.iconst 1, []), (.ldc_w 328, [1, 137]), (.aastore, [10]), (.dup, []), (.iconst 2, []), (.ldc_w 330, [1, 138]), (.aastore, [10]), (.dup, []), (.iconst 3, []), (.ldc 235, [1, 74]), (.aastore, [10]), (.dup, []), (.iconst 4, []), (.ldc_w 332, [1, 139]), (.aastore, [10]), (.aastore, [11]), (.dup, []), (.iconst 2, []), (.iconst 3, []), (.anewarray 1, [10]), (.dup, []), (.iconst 0, []), (.ldc_w 334, [1, 140]), (.aastore, [10]), (.dup, []), (.iconst 1, []), (.ldc 239, [1, 76]), (.aastore, [10]), (.dup, []), (.iconst 2, []), (.ldc_w 336, [1, 141]), (.aastore, [10]), (.aastore, [11]), (.dup, []), (.iconst 3, []), (.bipush 13, []), (.anewarray 1, [10]), (.dup, []), (.iconst 0, []), (.ldc 237, [1, 75]), (.aastore, [10]), (.dup, []), (.iconst 1, []), (.ldc 239, [1, 76]), (.aastore, [10]), (.dup, []), (.iconst 2, []), (.ldc_w 338, [1, 142]), (.aastore, [10]), (.dup, []), (.iconst 3, []), (.ldc_w 340, [1, 143]), (.aastore, [10]), (.dup, []), (.iconst 4, []), (.ldc_w 342, [1, 144]), (.aastore, [10]), (.dup, []), (.iconst 5, []), (.ldc 241, [1, 77]), (.aastore, [10]), (.dup, []), (.bipush 6, []), (.ldc_w 344, [1, 145]), (.aastore, [10]), (.dup, []), (.bipush 7, []), (.ldc_w 346, [1, 146]), (.aastore, [10]), (.dup, []), (.bipush 8, []), (.ldc_w 348, [1, 147]), (.aastore, [10]), (.dup, []), (.bipush 9, []), (.ldc_w 336, [1, 141]), (.aastore, [10]), (.dup, []), (.bipush 10, []), (.ldc_w 350, [1, 148]), (.aastore, [10]), (.dup, []), (.bipush 11, []), (.ldc_w 352, [1, 149]), (.aastore, [10]), (.dup, []), (.bipush 12, []), (.ldc_w 354, [1, 150]), (.aastore, [10]), (.aastore, [11]), (.dup, []), (.iconst 4, []), (.iconst 5, []), (.anewarray 1, [10]), (.dup, []), (.iconst 0, []), (.ldc_w 356, [1, 151]), (.aastore, [10]), (.dup, []), (.iconst 1, []), (.ldc_w 358, [1, 152]), (.aastore, [10]), (.dup, []), (.iconst 2, []), (.ldc_w 360, [1, 153]), (.aastore, [10]), (.dup, []), (.iconst 3, []), (.ldc_w 362, [1, 154]), (.aastore, [10]), (.dup, []), (.iconst 4, []), (.ldc_w 364, [1, 155]), (.aastore, [10]), (.aastore, [11]), (.dup, []), (.iconst 5, []), (.iconst 4, []), (.anewarray 1, [10]), (.dup, []), (.iconst 0, []), (.ldc_w 366, [1, 156]), (.aastore, [10]), (.dup, []), (.iconst 1, []), (.ldc_w 368, [1, 157]), (.aastore, [10]), (.dup, []), (.iconst 2, []), (.ldc_w 370, [1, 158]), (.aastore, [10]), (.dup, []), (.iconst 3, []), (.ldc_w 372, [1, 159]), (.aastore, [10]), (.aastore, [11]), (.dup, []), (.bipush 6, []), (.bipush 7, []), (.anewarray 1, [10]), (.dup, []), (.iconst 0, []), (.ldc 251, [1, 82]), (.aastore, [10]), (.dup, []), (.iconst 1, []), (.ldc_w 374, [1, 160]), (.aastore, [10]), (.dup, []), (.iconst 2, []), (.ldc_w 376, [1, 161]), (.aastore, [10]), (.dup, []), (.iconst 3, []), (.ldc_w 378, [1, 162]), (.aastore, [10]), (.dup, []), (.iconst 4, []), (.ldc_w 380, [1, 163]), (.aastore, [10]), (.dup, []), (.iconst 5, []), (.ldc_w 382, [1, 164]), (.aastore, [10]), (.dup, []), (.bipush 6, []), (.ldc_w 384, [1, 165]), (.aastore, [10]), (.aastore, [11]), (.dup, []), (.bipush 7, []), (.iconst 4, []), (.anewarray 1, [10]), (.dup, []), (.iconst 0, []), (.ldc 253, [1, 83]), (.aastore, [10]), (.dup, []), (.iconst 1, []), (.ldc 255, [1, 84]), (.aastore, [10]), (.dup, []), (.iconst 2, []), (.ldc_w 386, [1, 166]), (.aastore, [10]), (.dup, []), (.iconst 3, []), (.ldc_w 388, [1, 167]), (.aastore, [10]), (.aastore, [11]), (.astore_n 1, []), (.iconst 0, []), (.istore_n 2, []), (.nop, [1])]),
  (true, [(.iload_n 2, []), (.aload_n 1, []), (.arraylength, [0, 11]), (.if_icmp .ge 88, [4]), (.aload_n 0, []), (.getfield 266, [0, 11, 1]), (.getfield 390, [7, 1, 1]), (.aload_n 0, []), (.aload_n 1, []), (.iload_n 2, []), (.aaload, [11]), (.iconst 0, []), (.aaload, [10]), (.invokevirtual 225, [1, 0, 4, 2, 1, 0, 1]), (.invokevirtual 394, [1, 6, 1, 2, 1, 0, 1]), (.istore_n 3, []), (.iconst 1, []), (.istore 4, []), (.nop, [2])]),
  (true, [(.iload 4, []), (.aload_n 1, []), (.iload_n 2, []), (.aaload, [11]), (.arraylength, [0, 10]), (.if_icmp .ge 50, [3]), (.aload_n 0, []), (.getfield 266, [0, 11, 1]), (.getfield 288, [7, 2, 1]), (.getfield 400, [12, 4, 1]), (.aload_n 0, []), (.getfield 266, [0, 11, 1]), (.getfield 288, [7, 2, 1]), (.iload_n 3, []), (.aload_n 0, []), (.aload_n 1, []), (.iload_n 2, []), (.aaload, [11]), (.iload 4, []), (.aaload, [10]), (.invokevirtual 225, [1, 0, 4, 2, 1, 0, 1]), (.invokevirtual 404, [1, 12, 1, 3, 1, 0, 1]), (.bipush 100, []), (.iload_n 2, []), (.imul, []), (.iload 4, []), (.iadd, []), (.iconst 1, []), (.isub, []), (.iastore, []), (.iinc 4 1, []), (.goto (-53), [2])]),
  (false, [(.iinc 2 1, []), (.goto (-88), [1])]),
  (false, [(.return_, [])])]
/-- TowerComputer.spell(Ljava/lang/String;I)I -/
def m_0_3 : List am_B := [
  (false, [(.iconst 0, []), (.istore_n 3, []), (.nop, [1])]),
  (true, [(.iload_n 3, []), (.aload_n 1, []), (.invokevirtual 409, [6, 0, 0, 1, 0, 0, 0]), (.if_icmp .ge 23, [2]), (.aload_n 0, []), (.getfield 109, [0, 1, 1]), (.iload_n 2, []), (.iload_n 3, []), (.iadd, []), (.aload_n 1, []), (.iload_n 3, []), (.invokevirtual 412, [7, 0, 0, 2, 0, 0, 0]), (.i2b, []), (.bastore, [2]), (.iinc 3 1, []), (.goto (-25), [1])]),
  (false, [(.aload_n 0, []), (.getfield 109, [0, 1, 1]), (.iload_n 2, []), (.aload_n 1, []), (.invokevirtual 409, [6, 0, 0, 1, 0, 0, 0]), (.iadd, []), (.bipush 32, []), (.bastore, [2]), (.iload_n 2, []), (.aload_n 1, []), (.invokevirtual 409, [6, 0, 0, 1, 0, 0, 0]), (.iadd, []), (.iconst 1, []), (.iadd, []), (.ireturn, [])])]
/-- TowerComputer.name(Ljava/lang/String;)I -/
def m_0_4 : List am_B := [
  (false, [(.aload_n 0, []), (.aload_n 1, []), (.iconst 0, []), (.invokevirtual 274, [1, 0, 3, 3, 1, 0, 1]), (.pop, []), (.aload_n 0, []), (.getfield 119, [0, 8, 1]), (.aload_n 0, []), (.getfield 109, [0, 1, 1]), (.iconst 0, []), (.aload_n 1, []), (.invokevirtual 409, [6, 0, 0, 1, 0, 0, 0]), (.invokevirtual 415, [1, 9, 1, 4, 1, 0, 1]), (.ireturn, [])])]
/-- TowerComputer.put(I)V -/
def m_0_5 : List am_B := [
  (false, [(.iconst 0, []), (.istore_n 2, []), (.nop, [1])]),
  (true, [(.iload_n 2, []), (.iconst 4, []), (.if_icmp .ge 38, [2]), (.aload_n 0, []), (.getfield 105, [0, 0, 1]), (.aload_n 0, []), (.getfield 418, [0, 2, 0]), (.iload_n 1, []), (.bipush 24, []), (.bipush 8, []), (.iload_n 2, []), (.imul, []), (.isub, []), (.ishr, []), (.i2b, []), (.bastore, [2]), (.aload_n 0, []), (.dup, []), (.getfield 418, [0, 2, 0]), (.iconst 1, []), (.iadd, []), (.putfield 418, [0, 2, 0]), (.iinc 2 1, []), (.goto (-37), [1])]),
  (false, [(.return_, [])])]
/-- TowerComputer.feed(IIIII)Z -/
def m_0_6 : List am_B := [
  (false, [(.aload_n 0, []), (.getfield 418, [0, 2, 0]), (.bipush 20, []), (.iadd, []), (.sipush 4000, []), (.if_icmp .le 5, [1]), (.iconst 0, []), (.ireturn, [1])]),
  (false, [(.aload_n 0, []), (.iload_n 1, []), (.invokevirtual 421, [1, 0, 5, 2, 0, 0, 1]), (.aload_n 0, []), (.iload_n 2, []), (.invokevirtual 421, [1, 0, 5, 2, 0, 0, 1]), (.aload_n 0, []), (.iload_n 3, []), (.invokevirtual 421, [1, 0, 5, 2, 0, 0, 1]), (.aload_n 0, []), (.iload 4, []), (.invokevirtual 421, [1, 0, 5, 2, 0, 0, 1]), (.aload_n 0, []), (.iload 5, []), (.invokevirtual 421, [1, 0, 5, 2, 0, 0, 1]), (.iconst 1, []), (.ireturn, [1])])]
/-- TowerComputer.load(I)I -/
def m_0_7 : List am_B := [
  (false, [(.iload_n 1, []), (.ifCond .lt 11, [1]), (.iload_n 1, []), (.aload_n 0, []), (.getfield 418, [0, 2, 0]), (.if_icmp .le 5, [2]), (.nop, [1])]),
  (false, [(.iconst (-1), []), (.ireturn, [])]),
  (false, [(.iconst 0, []), (.istore_n 2, []), (.nop, [3])]),
  (true, [(.iload_n 2, []), (.iload_n 1, []), (.if_icmp .ge 21, [4]), (.aload_n 0, []), (.getfield 109, [0, 1, 1]), (.iload_n 2, []), (.aload_n 0, []), (.getfield 105, [0, 0, 1]), (.iload_n 2, []), (.baload, [2]), (.bastore, [2]), (.iinc 2 1, []), (.goto (-20), [3])]),
  (false, [(.aload_n 0, []), (.iconst 0, []), (.putfield 418, [0, 2, 0]), (.aload_n 0, []), (.getfield 425, [0, 19, 3]), (.ifCond .eq 10, [5]), (.aload_n 0, []), (.getfield 266, [0, 11, 1]), (.invokevirtual 429, [1, 7, 28, 1, 0, 0, 1]), (.nop, [5])]),
  (true, [(.aload_n 0, []), (.iconst 1, []), (.putfield 425, [0, 19, 3]), (.aload_n 0, []), (.getfield 119, [0, 8, 1]), (.aload_n 0, []), (.getfield 315, [0, 6, 0]), (.invokevirtual 432, [1, 9, 4, 2, 0, 0, 1]), (.aload_n 0, []), (.getfield 126, [0, 9, 1]), (.aload_n 0, []), (.getfield 299, [0, 4, 0]), (.putfield 296, [16, 3, 0]), (.aload_n 0, []), (.getfield 126, [0, 9, 1]), (.aload_n 0, []), (.getfield 305, [0, 7, 0]), (.putfield 302, [16, 4, 0]), (.aload_n 0, []), (.getfield 133, [0, 12, 1]), (.aload_n 0, []), (.getfield 309, [0, 5, 0]), (.putfield 308, [14, 3, 0]), (.aload_n 0, []), (.getfield 266, [0, 11, 1]), (.iload_n 1, []), (.iconst 0, []), (.invokevirtual 278, [1, 7, 26, 3, 1, 0, 1]), (.istore_n 2, []), (.aload_n 0, []), (.iload_n 2, []), (.ifCond .ne 7, [6]), (.iconst 1, []), (.goto 4, [7])]),
  (false, [(.iconst 0, []), (.nop, [7])]),
  (true, [(.putfield 434, [0, 18, 3]), (.aload_n 0, []), (.aload_n 0, []), (.getfield 266, [0, 11, 1]), (.getfield 437, [7, 10, 0]), (.putfield 112, [0, 3, 0]), (.aload_n 0, []), (.aload_n 0, []), (.getfield 266, [0, 11, 1]), (.getfield 438, [7, 5, 1]), (.getfield 442, [13, 4, 1]), (.iconst 0, []), (.iaload, []), (.putfield 447, [0, 17, 0]), (.aload_n 0, []), (.getfield 434, [0, 18, 3]), (.ifCond .ne 5, [8]), (.iload_n 2, []), (.ireturn, [])]),
  (false, [(.aload_n 0, []), (.getfield 133, [0, 12, 1]), (.aload_n 0, []), (.getfield 126, [0, 9, 1]), (.aload_n 0, []), (.getfield 299, [0, 4, 0]), (.aload_n 0, []), (.getfield 266, [0, 11, 1]), (.getfield 288, [7, 2, 1]), (.iconst 1, []), (.invokevirtual 292, [1, 14, 29, 5, 0, 0, 1]), (.aload_n 0, []), (.getfield 126, [0, 9, 1]), (.getfield 296, [16, 3, 0]), (.istore_n 3, []), (.aload_n 0, []), (.getfield 266, [0, 11, 1]), (.aload_n 0, []), (.getfield 257, [0, 10, 1]), (.invokevirtual 450, [1, 7, 27, 2, 0, 0, 1]), (.aload_n 0, []), (.getfield 133, [0, 12, 1]), (.aload_n 0, []), (.getfield 133, [0, 12, 1]), (.sipush 129, []), (.invokevirtual 453, [1, 14, 2, 2, 1, 0, 1]), (.invokevirtual 456, [1, 14, 9, 2, 0, 0, 1]), (.aload_n 0, []), (.getfield 133, [0, 12, 1]), (.aload_n 0, []), (.getfield 126, [0, 9, 1]), (.iload_n 3, []), (.aload_n 0, []), (.getfield 266, [0, 11, 1]), (.getfield 288, [7, 2, 1]), (.iconst 0, []), (.invokevirtual 292, [1, 14, 29, 5, 0, 0, 1]), (.aload_n 0, []), (.getfield 133, [0, 12, 1]), (.iconst 0, []), (.invokevirtual 459, [1, 14, 30, 2, 0, 0, 1]), (.iconst 0, []), (.ireturn, [])])]
/-- TowerComputer.command(II)I -/
def m_0_8 : List am_B := [
  (false, [(.aload_n 0, []), (.getfield 434, [0, 18, 3]), (.ifCond .eq 45, [1]), (.iload_n 1, []), (.ifCond .lt 41, [1]), (.iload_n 1, []), (.aload_n 0, []), (.getfield 266, [0, 11, 1]), (.getfield 462, [7, 19, 1]), (.getfield 466, [8, 3, 0]), (.if_icmp .ge 27, [1]), (.iload_n 2, []), (.ifCond .lt 23, [1]), (.iload_n 2, []), (.iconst 2, []), (.if_icmp .gt 18, [1]), (.aload_n 0, []), (.getfield 266, [0, 11, 1]), (.getfield 462, [7, 19, 1]), (.iload_n 1, []), (.iload_n 2, []), (.invokevirtual 467, [1, 8, 2, 3, 1, 0, 1]), (.goto 4, [2])]),
  (false, [(.iconst (-1), []), (.nop, [2])]),
  (false, [(.ireturn, [])])]
/-- TowerComputer.signs(I)I -/
def m_0_9 : List am_B := [
  (false, [(.iload_n 1, []), (.ifCond .lt 11, [1]), (.iload_n 1, []), (.aload_n 0, []), (.getfield 418, [0, 2, 0]), (.if_icmp .le 5, [2]), (.nop, [1])]),
  (false, [(.iconst (-1), []), (.ireturn, [])]),
  (false, [(.aload_n 0, []), (.iload_n 1, []), (.invokevirtual 470, [1, 0, 10, 2, 0, 0, 1]), (.aload_n 0, []), (.getfield 163, [0, 21, 1]), (.invokevirtual 473, [1, 1, 1, 1, 0, 0, 1]), (.aload_n 0, []), (.getfield 154, [0, 20, 1]), (.iload_n 1, []), (.invokevirtual 474, [1, 11, 6, 2, 1, 0, 1]), (.istore_n 2, []), (.aload_n 0, []), (.aload_n 0, []), (.getfield 154, [0, 20, 1]), (.getfield 476, [11, 14, 0]), (.putfield 112, [0, 3, 0]), (.iload_n 2, []), (.ireturn, [])])]
/-- TowerComputer.take(I)V -/
def m_0_10 : List am_B := [
  (false, [(.iconst 0, []), (.istore_n 2, []), (.nop, [1])]),
  (true, [(.iload_n 2, []), (.iload_n 1, []), (.if_icmp .ge 21, [2]), (.aload_n 0, []), (.getfield 109, [0, 1, 1]), (.iload_n 2, []), (.aload_n 0, []), (.getfield 105, [0, 0, 1]), (.iload_n 2, []), (.baload, [2]), (.bastore, [2]), (.iinc 2 1, []), (.goto (-20), [1])]),
  (false, [(.aload_n 0, []), (.iconst 0, []), (.putfield 418, [0, 2, 0]), (.return_, [])])]
/-- TowerComputer.code(I)I -/
def m_0_11 : List am_B := [
  (false, [(.iload_n 1, []), (.ifCond .lt 26, [1]), (.iload_n 1, []), (.aload_n 0, []), (.getfield 154, [0, 20, 1]), (.getfield 477, [11, 12, 0]), (.if_icmp .ge 15, [1]), (.aload_n 0, []), (.getfield 154, [0, 20, 1]), (.getfield 478, [11, 1, 1]), (.iload_n 1, []), (.iaload, []), (.goto 4, [2])]),
  (false, [(.iconst (-1), []), (.nop, [2])]),
  (false, [(.ireturn, [])])]
/-- TowerComputer.go(I)I -/
def m_0_12 : List am_B := [
  (false, [(.iload_n 1, []), (.ifCond .lt 21, [1]), (.iload_n 1, []), (.sipush 20000, []), (.if_icmp .gt 14, [1]), (.aload_n 0, []), (.getfield 163, [0, 21, 1]), (.iload_n 1, []), (.invokevirtual 481, [1, 1, 2, 2, 1, 0, 1]), (.goto 4, [2])]),
  (false, [(.iconst (-1), []), (.nop, [2])]),
  (false, [(.ireturn, [])])]
/-- TowerComputer.isAddress(I)Z -/
def m_0_13 : List am_B := [
  (false, [(.iload_n 0, []), (.ifCond .lt 14, [1]), (.iload_n 0, []), (.ldc_w 484, [0, 32768]), (.if_icmp .ge 7, [1]), (.iconst 1, []), (.goto 4, [2])]),
  (false, [(.iconst 0, []), (.nop, [2])]),
  (false, [(.ireturn, [1])])]
/-- TowerComputer.set(II)Z -/
def m_0_14 : List am_B := [
  (false, [(.iload_n 1, []), (.invokestatic 485, [0, 0, 13, 1, 1, 0, 1]), (.ifCond .ne 5, [1]), (.iconst 0, []), (.ireturn, [1])]),
  (false, [(.aload_n 0, []), (.getfield 163, [0, 21, 1]), (.getfield 489, [1, 0, 1]), (.iload_n 1, []), (.iload_n 2, []), (.i2s, []), (.sastore, []), (.iconst 1, []), (.ireturn, [1])])]
/-- TowerComputer.store(I)I -/
def m_0_15 : List am_B := [
  (false, [(.iload_n 1, []), (.invokestatic 485, [0, 0, 13, 1, 1, 0, 1]), (.ifCond .eq 15, [1]), (.aload_n 0, []), (.getfield 163, [0, 21, 1]), (.getfield 489, [1, 0, 1]), (.iload_n 1, []), (.saload, []), (.goto 6, [2])]),
  (false, [(.ldc_w 493, [0, 100000]), (.nop, [2])]),
  (false, [(.ireturn, [])])]
/-- TowerComputer.register(I)I -/
def m_0_16 : List am_B := [
  (false, [(.iload_n 1, []), (.tableswitch 87 0 5 #[39, 47, 55, 63, 71, 79], [7, 1, 2, 3, 4, 5, 6])]),
  (false, [(.aload_n 0, []), (.getfield 163, [0, 21, 1]), (.getfield 494, [1, 2, 0]), (.ireturn, [])]),
  (false, [(.aload_n 0, []), (.getfield 163, [0, 21, 1]), (.getfield 497, [1, 3, 0]), (.ireturn, [])]),
  (false, [(.aload_n 0, []), (.getfield 163, [0, 21, 1]), (.getfield 500, [1, 4, 0]), (.ireturn, [])]),
  (false, [(.aload_n 0, []), (.getfield 154, [0, 20, 1]), (.getfield 477, [11, 12, 0]), (.ireturn, [])]),
  (false, [(.aload_n 0, []), (.getfield 163, [0, 21, 1]), (.getfield 503, [1, 5, 0]), (.ireturn, [])]),
  (false, [(.aload_n 0, []), (.getfield 154, [0, 20, 1]), (.getfield 506, [11, 13, 0]), (.ireturn, [])]),
  (false, [(.iconst 0, []), (.ireturn, [])])]
/-- TowerComputer.chips(I)I -/
def m_0_17 : List am_B := [
  (false, [(.iload_n 1, []), (.ifCond .lt 11, [1]), (.iload_n 1, []), (.aload_n 0, []), (.getfield 418, [0, 2, 0]), (.if_icmp .le 5, [2]), (.nop, [1])]),
  (false, [(.iconst (-1), []), (.ireturn, [])]),
  (false, [(.aload_n 0, []), (.iload_n 1, []), (.invokevirtual 470, [1, 0, 10, 2, 0, 0, 1]), (.aload_n 0, []), (.getfield 170, [0, 22, 1]), (.iload_n 1, []), (.invokevirtual 509, [1, 4, 13, 2, 1, 0, 1]), (.istore_n 2, []), (.aload_n 0, []), (.aload_n 0, []), (.getfield 170, [0, 22, 1]), (.getfield 510, [4, 8, 0]), (.putfield 112, [0, 3, 0]), (.aload_n 0, []), (.iload_n 2, []), (.ifCond .ne 7, [3]), (.iconst 1, []), (.goto 4, [4])]),
  (false, [(.iconst 0, []), (.nop, [4])]),
  (true, [(.putfield 511, [0, 24, 3]), (.aload_n 0, []), (.getfield 511, [0, 24, 3]), (.ifCond .ne 5, [5]), (.iload_n 2, []), (.ireturn, [])]),
  (false, [(.aload_n 0, []), (.aload_n 0, []), (.getfield 179, [0, 23, 1]), (.invokevirtual 514, [1, 2, 3, 1, 1, 0, 1]), (.putfield 511, [0, 24, 3]), (.aload_n 0, []), (.getfield 511, [0, 24, 3]), (.ifCond .eq 5, [6]), (.iconst 0, []), (.ireturn, [])]),
  (false, [(.aload_n 0, []), (.iload_n 1, []), (.putfield 112, [0, 3, 0]), (.bipush 6, []), (.ireturn, [])])]
/-- TowerComputer.isPin(IZ)Z -/
def m_0_18 : List am_B := [
  (false, [(.aload_n 0, []), (.getfield 511, [0, 24, 3]), (.ifCond .eq 7, [1]), (.iload_n 1, []), (.ifCond .ge 5, [2]), (.nop, [1])]),
  (false, [(.iconst 0, []), (.ireturn, [1])]),
  (false, [(.aload_n 0, []), (.getfield 179, [0, 23, 1]), (.getfield 518, [2, 18, 2]), (.astore_n 3, []), (.iload_n 2, []), (.ifCond .eq 24, [4]), (.iload_n 1, []), (.aload_n 3, []), (.getfield 522, [3, 2, 0]), (.aload_n 3, []), (.getfield 527, [3, 3, 0]), (.isub, []), (.if_icmp .ge 7, [3]), (.iconst 1, []), (.goto 20, [6])]),
  (false, [(.iconst 0, []), (.goto 16, [6])]),
  (false, [(.iload_n 1, []), (.aload_n 3, []), (.getfield 527, [3, 3, 0]), (.if_icmp .ge 7, [5]), (.iconst 1, []), (.goto 4, [6])]),
  (false, [(.iconst 0, []), (.nop, [6])]),
  (false, [(.ireturn, [1])])]
/-- TowerComputer.drive(II)Z -/
def m_0_19 : List am_B := [
  (false, [(.aload_n 0, []), (.iload_n 1, []), (.iconst 0, []), (.invokevirtual 530, [1, 0, 18, 3, 1, 0, 1]), (.ifCond .ne 5, [1]), (.iconst 0, []), (.ireturn, [1])]),
  (false, [(.aload_n 0, []), (.getfield 179, [0, 23, 1]), (.iload_n 1, []), (.iload_n 2, []), (.invokevirtual 534, [1, 2, 13, 3, 0, 0, 1]), (.iconst 1, []), (.ireturn, [1])])]
/-- TowerComputer.pin(I)I -/
def m_0_20 : List am_B := [
  (false, [(.aload_n 0, []), (.iload_n 1, []), (.iconst 1, []), (.invokevirtual 530, [1, 0, 18, 3, 1, 0, 1]), (.ifCond .eq 25, [1]), (.aload_n 0, []), (.getfield 179, [0, 23, 1]), (.aload_n 0, []), (.getfield 179, [0, 23, 1]), (.getfield 518, [2, 18, 2]), (.getfield 527, [3, 3, 0]), (.iload_n 1, []), (.iadd, []), (.invokevirtual 538, [1, 2, 14, 2, 1, 0, 1]), (.goto 4, [2])]),
  (false, [(.iconst (-1), []), (.nop, [2])]),
  (false, [(.ireturn, [])])]
/-- TowerComputer.tick()I -/
def m_0_21 : List am_B := [
  (false, [(.aload_n 0, []), (.getfield 511, [0, 24, 3]), (.ifCond .eq 13, [1]), (.aload_n 0, []), (.getfield 179, [0, 23, 1]), (.invokevirtual 541, [1, 2, 15, 1, 1, 0, 1]), (.goto 4, [2])]),
  (false, [(.iconst (-1), []), (.nop, [2])]),
  (false, [(.ireturn, [])])]
/-- TowerComputer.gates(I)I -/
def m_0_22 : List am_B := [
  (false, [(.aload_n 0, []), (.getfield 511, [0, 24, 3]), (.ifCond .ne 5, [1]), (.iconst (-1), []), (.ireturn, [])]),
  (false, [(.iload_n 1, []), (.tableswitch 127 0 7 #[46, 54, 62, 73, 95, 103, 111, 119], [10, 2, 3, 4, 5, 6, 7, 8, 9])]),
  (false, [(.aload_n 0, []), (.getfield 179, [0, 23, 1]), (.getfield 544, [2, 10, 0]), (.ireturn, [])]),
  (false, [(.aload_n 0, []), (.getfield 179, [0, 23, 1]), (.getfield 547, [2, 11, 0]), (.ireturn, [])]),
  (false, [(.aload_n 0, []), (.getfield 179, [0, 23, 1]), (.getfield 518, [2, 18, 2]), (.getfield 527, [3, 3, 0]), (.ireturn, [])]),
  (false, [(.aload_n 0, []), (.getfield 179, [0, 23, 1]), (.getfield 518, [2, 18, 2]), (.getfield 522, [3, 2, 0]), (.aload_n 0, []), (.getfield 179, [0, 23, 1]), (.getfield 518, [2, 18, 2]), (.getfield 527, [3, 3, 0]), (.isub, []), (.ireturn, [])]),
  (false, [(.aload_n 0, []), (.getfield 170, [0, 22, 1]), (.getfield 550, [4, 6, 0]), (.ireturn, [])]),
  (false, [(.aload_n 0, []), (.getfield 179, [0, 23, 1]), (.getfield 551, [2, 16, 0]), (.ireturn, [])]),
  (false, [(.aload_n 0, []), (.getfield 179, [0, 23, 1]), (.getfield 554, [2, 17, 0]), (.ireturn, [])]),
  (false, [(.aload_n 0, []), (.getfield 179, [0, 23, 1]), (.invokevirtual 557, [1, 2, 16, 1, 1, 0, 1]), (.ireturn, [])]),
  (false, [(.iconst (-1), []), (.ireturn, [])])]
/-- TowerComputer.keys(I)Z -/
def m_0_23 : List am_B := [
  (false, [(.iload_n 1, []), (.ifCond .lt 18, [1]), (.iload_n 1, []), (.sipush 200, []), (.if_icmp .gt 11, [1]), (.iload_n 1, []), (.aload_n 0, []), (.getfield 418, [0, 2, 0]), (.if_icmp .le 5, [2]), (.nop, [1])]),
  (false, [(.iconst 0, []), (.ireturn, [1])]),
  (false, [(.iconst 0, []), (.istore_n 2, []), (.nop, [3])]),
  (true, [(.iload_n 2, []), (.iload_n 1, []), (.if_icmp .ge 21, [4]), (.aload_n 0, []), (.getfield 146, [0, 14, 1]), (.iload_n 2, []), (.aload_n 0, []), (.getfield 105, [0, 0, 1]), (.iload_n 2, []), (.baload, [2]), (.bastore, [2]), (.iinc 2 1, []), (.goto (-20), [3])]),
  (false, [(.aload_n 0, []), (.iload_n 1, []), (.putfield 560, [0, 15, 0]), (.aload_n 0, []), (.iconst 0, []), (.putfield 418, [0, 2, 0]), (.iconst 1, []), (.ireturn, [1])])]
/-- TowerComputer.run(I)I -/
def m_0_24 : List am_B := [
  (false, [(.aload_n 0, []), (.getfield 434, [0, 18, 3]), (.ifCond .eq 14, [1]), (.iload_n 1, []), (.ifCond .lt 10, [1]), (.iload_n 1, []), (.sipush 5000, []), (.if_icmp .le 5, [2]), (.nop, [1])]),
  (false, [(.iconst (-1), []), (.ireturn, [])]),
  (false, [(.iconst 0, []), (.istore_n 2, []), (.nop, [3])]),
  (true, [(.iload_n 2, []), (.aload_n 0, []), (.getfield 560, [0, 15, 0]), (.if_icmp .ge 24, [4]), (.aload_n 0, []), (.getfield 142, [0, 13, 1]), (.getfield 563, [10, 2, 1]), (.iload_n 2, []), (.aload_n 0, []), (.getfield 146, [0, 14, 1]), (.iload_n 2, []), (.baload, [2]), (.bastore, [2]), (.iinc 2 1, []), (.goto (-26), [3])]),
  (false, [(.aload_n 0, []), (.getfield 142, [0, 13, 1]), (.aload_n 0, []), (.getfield 560, [0, 15, 0]), (.putfield 564, [10, 5, 0]), (.aload_n 0, []), (.getfield 142, [0, 13, 1]), (.iload_n 1, []), (.aload_n 0, []), (.getfield 447, [0, 17, 0]), (.invokevirtual 565, [1, 10, 7, 3, 1, 0, 1]), (.istore_n 2, []), (.aload_n 0, []), (.aload_n 0, []), (.getfield 560, [0, 15, 0]), (.aload_n 0, []), (.getfield 142, [0, 13, 1]), (.getfield 568, [10, 6, 0]), (.isub, []), (.putfield 571, [0, 16, 0]), (.aload_n 0, []), (.iload_n 2, []), (.ifCond .ne 7, [5]), (.iconst (-1), []), (.goto 18, [6])]),
  (false, [(.aload_n 0, []), (.getfield 142, [0, 13, 1]), (.getfield 574, [10, 4, 1]), (.aload_n 0, []), (.getfield 142, [0, 13, 1]), (.getfield 575, [10, 10, 0]), (.iaload, []), (.nop, [6])]),
  (false, [(.putfield 112, [0, 3, 0]), (.iload_n 2, []), (.ireturn, [])])]
/-- TowerComputer.place()I -/
def m_0_25 : List am_B := [
  (false, [(.aload_n 0, []), (.getfield 112, [0, 3, 0]), (.ireturn, [])])]
/-- TowerComputer.error()I -/
def m_0_26 : List am_B := [
  (false, [(.aload_n 0, []), (.getfield 142, [0, 13, 1]), (.getfield 578, [10, 13, 0]), (.ireturn, [])])]
/-- TowerComputer.fetch()J -/
def m_0_27 : List am_B := [
  (false, [(.bipush 7, []), (.aload_n 0, []), (.getfield 142, [0, 13, 1]), (.getfield 580, [10, 7, 0]), (.invokestatic 583, [4, 0, 0, 2, 0, 0, 0]), (.istore_n 1, [1]), (.aload_n 0, []), (.getfield 142, [0, 13, 1]), (.getfield 587, [10, 3, 1]), (.astore_n 2, [1]), (.iload_n 1, []), (.i2l, []), (.bipush 56, []), (.lshl, []), (.lstore_n 3, [1]), (.iconst 0, []), (.istore 5, [1]), (.nop, [1])]),
  (true, [(.iload 5, []), (.iload_n 1, []), (.if_icmp .ge 30, [2]), (.lload_n 3, []), (.aload_n 2, []), (.iload 5, []), (.baload, [2]), (.i2l, []), (.ldc2_w 590, [255]), (.land, []), (.bipush 48, []), (.bipush 8, []), (.iload 5, []), (.imul, []), (.isub, []), (.lshl, []), (.lor, []), (.lstore_n 3, [1]), (.iinc 5 1, []), (.goto (-30), [1])]),
  (false, [(.iload_n 1, []), (.istore 5, [1]), (.nop, [3])]),
  (true, [(.iload 5, []), (.aload_n 0, []), (.getfield 142, [0, 13, 1]), (.getfield 580, [10, 7, 0]), (.if_icmp .ge 19, [4]), (.aload_n 2, []), (.iload 5, []), (.iload_n 1, []), (.isub, []), (.aload_n 2, []), (.iload 5, []), (.baload, [2]), (.bastore, [2]), (.iinc 5 1, []), (.goto (-25), [3])]),
  (false, [(.aload_n 0, []), (.getfield 142, [0, 13, 1]), (.dup, []), (.getfield 580, [10, 7, 0]), (.iload_n 1, []), (.isub, []), (.putfield 580, [10, 7, 0]), (.iload_n 1, []), (.ifCond .ne 7, [5]), (.lconst 0, []), (.goto 4, [6])]),
  (false, [(.lload_n 3, []), (.nop, [6])]),
  (false, [(.lreturn, [])])]
/-- TowerComputer.row(I)J -/
def m_0_28 : List am_B := [
  (false, [(.lconst 0, []), (.lstore_n 2, [1]), (.iconst 3, []), (.istore 4, [1]), (.nop, [1])]),
  (true, [(.iload 4, []), (.ifCond .lt 48, [2]), (.iload_n 1, []), (.ifCond .lt 44, [2]), (.iload_n 1, []), (.bipush 32, []), (.if_icmp .ge 38, [2]), (.lload_n 2, []), (.bipush 16, []), (.lshl, []), (.aload_n 0, []), (.getfield 142, [0, 13, 1]), (.getfield 592, [10, 0, 1]), (.sipush 16384, []), (.iconst 4, []), (.iload_n 1, []), (.imul, []), (.iadd, []), (.iload 4, []), (.iadd, []), (.saload, []), (.i2l, []), (.ldc2_w 595, [65535]), (.land, []), (.lor, []), (.lstore_n 2, [1]), (.iinc 4 (-1), []), (.goto (-47), [1])]),
  (false, [(.lload_n 2, []), (.lreturn, [])])]
/-- TowerComputer.word(I)I -/
def m_0_29 : List am_B := [
  (false, [(.iload_n 1, []), (.sipush 2048, []), (.if_icmp .lt 10, [1]), (.iload_n 1, []), (.sipush 14336, []), (.if_icmp .lt 17, [2]), (.nop, [1])]),
  (true, [(.iload_n 1, []), (.sipush 16384, []), (.if_icmp .lt 22, [3]), (.iload_n 1, []), (.sipush 16512, []), (.if_icmp .ge 15, [3]), (.nop, [2])]),
  (false, [(.aload_n 0, []), (.getfield 142, [0, 13, 1]), (.getfield 592, [10, 0, 1]), (.iload_n 1, []), (.saload, []), (.goto 6, [4])]),
  (false, [(.ldc_w 493, [0, 100000]), (.nop, [4])]),
  (false, [(.ireturn, [])])]
/-- TowerComputer.blocks()I -/
def m_0_30 : List am_B := [
  (false, [(.aload_n 0, []), (.getfield 142, [0, 13, 1]), (.getfield 592, [10, 0, 1]), (.bipush 18, []), (.saload, []), (.ireturn, [])])]
/-- TowerComputer.count(I)I -/
def m_0_31 : List am_B := [
  (false, [(.iconst 0, []), (.istore_n 2, []), (.iconst 0, []), (.istore_n 3, []), (.nop, [1])]),
  (true, [(.iload_n 3, []), (.aload_n 0, []), (.invokevirtual 597, [1, 0, 30, 1, 1, 0, 1]), (.if_icmp .ge 25, [2]), (.iload_n 2, []), (.aload_n 0, []), (.getfield 142, [0, 13, 1]), (.getfield 592, [10, 0, 1]), (.sipush 16640, []), (.iload_n 3, []), (.iadd, []), (.saload, []), (.iadd, []), (.istore_n 2, []), (.iinc 3 1, []), (.goto (-27), [1])]),
  (false, [(.iload_n 1, []), (.tableswitch 99 0 7 #[45, 50, 58, 66, 68, 73, 81, 86], [13, 3, 4, 5, 6, 7, 8, 9, 10])]),
  (false, [(.aload_n 0, []), (.getfield 418, [0, 2, 0]), (.ireturn, [])]),
  (false, [(.aload_n 0, []), (.getfield 142, [0, 13, 1]), (.getfield 600, [10, 8, 0]), (.ireturn, [])]),
  (false, [(.aload_n 0, []), (.getfield 142, [0, 13, 1]), (.getfield 603, [10, 11, 0]), (.ireturn, [])]),
  (false, [(.iload_n 2, []), (.ireturn, [])]),
  (false, [(.aload_n 0, []), (.invokevirtual 597, [1, 0, 30, 1, 1, 0, 1]), (.ireturn, [])]),
  (false, [(.aload_n 0, []), (.getfield 142, [0, 13, 1]), (.getfield 580, [10, 7, 0]), (.ireturn, [])]),
  (false, [(.aload_n 0, []), (.getfield 571, [0, 16, 0]), (.ireturn, [])]),
  (false, [(.aload_n 0, []), (.getfield 434, [0, 18, 3]), (.ifCond .eq 7, [11]), (.iconst 1, []), (.goto 4, [12])]),
  (false, [(.iconst 0, []), (.nop, [12])]),
  (false, [(.ireturn, [])]),
  (false, [(.iconst (-1), []), (.ireturn, [])])]
/-- TowerComputer$Bare.<init>(LTowerComputer$Signs;)V -/
def m_1_0 : List am_B := [
  (false, [(.aload_n 0, []), (.invokespecial 1, [3, 0, 0, 1, 0, 0, 0]), (.aload_n 0, []), (.ldc 9, [0, 32768]), (.newarray .short, [3]), (.putfield 10, [1, 0, 1]), (.aload_n 0, []), (.aload_n 1, []), (.putfield 14, [1, 1, 1]), (.return_, [])])]
/-- TowerComputer$Bare.begin()V -/
def m_1_1 : List am_B := [
  (false, [(.iconst 0, []), (.istore_n 1, []), (.nop, [1])]),
  (true, [(.iload_n 1, []), (.ldc 9, [0, 32768]), (.if_icmp .ge 16, [2]), (.aload_n 0, []), (.getfield 10, [1, 0, 1]), (.iload_n 1, []), (.iconst 0, []), (.sastore, []), (.iinc 1 1, []), (.goto (-16), [1])]),
  (false, [(.aload_n 0, []), (.iconst 0, []), (.putfield 18, [1, 2, 0]), (.aload_n 0, []), (.iconst 0, []), (.putfield 22, [1, 3, 0]), (.aload_n 0, []), (.iconst 0, []), (.putfield 25, [1, 4, 0]), (.aload_n 0, []), (.iconst 0, []), (.putfield 28, [1, 5, 0]), (.return_, [])])]
/-- TowerComputer$Bare.go(I)I -/
def m_1_2 : List am_B := [
  (false, [(.iconst 0, []), (.istore_n 2, []), (.nop, [1])]),
  (true, [(.iload_n 2, []), (.iload_n 1, []), (.if_icmp .ge 39, [2]), (.aload_n 0, []), (.getfield 25, [1, 4, 0]), (.aload_n 0, []), (.getfield 14, [1, 1, 1]), (.getfield 31, [11, 12, 0]), (.if_icmp .ge 25, [2]), (.aload_n 0, []), (.aload_n 0, []), (.getfield 14, [1, 1, 1]), (.getfield 36, [11, 1, 1]), (.aload_n 0, []), (.getfield 25, [1, 4, 0]), (.iaload, []), (.invokevirtual 40, [1, 1, 3, 2, 0, 0, 1]), (.iinc 2 1, []), (.goto (-38), [1])]),
  (false, [(.aload_n 0, []), (.dup, []), (.getfield 28, [1, 5, 0]), (.iload_n 2, []), (.iadd, []), (.putfield 28, [1, 5, 0]), (.iload_n 2, []), (.ireturn, [])])]
/-- TowerComputer$Bare.one(I)V -/
def m_1_3 : List am_B := [
  (false, [(.aload_n 0, []), (.dup, []), (.getfield 25, [1, 4, 0]), (.iconst 1, []), (.iadd, []), (.putfield 25, [1, 4, 0]), (.iload_n 1, []), (.ldc 9, [0, 32768]), (.if_icmp .ge 9, [1]), (.aload_n 0, []), (.iload_n 1, []), (.putfield 18, [1, 2, 0]), (.return_, [])]),
  (false, [(.aload_n 0, []), (.getfield 18, [1, 2, 0]), (.sipush 32767, []), (.iand, []), (.istore_n 2, []), (.iload_n 1, []), (.bipush 6, []), (.ishr, []), (.bipush 63, []), (.iand, []), (.aload_n 0, []), (.getfield 22, [1, 3, 0]), (.iload_n 1, []), (.sipush 4096, []), (.iand, []), (.ifCond .eq 12, [2]), (.aload_n 0, []), (.getfield 10, [1, 0, 1]), (.iload_n 2, []), (.saload, []), (.goto 7, [3])]),
  (false, [(.aload_n 0, []), (.getfield 18, [1, 2, 0]), (.nop, [3])]),
  (true, [(.invokestatic 44, [0, 10, 5, 3, 1, 0, 1]), (.istore_n 3, []), (.iload_n 1, []), (.bipush 8, []), (.iand, []), (.ifCond .eq 11, [4]), (.aload_n 0, []), (.getfield 10, [1, 0, 1]), (.iload_n 2, []), (.iload_n 3, []), (.i2s, []), (.sastore, []), (.nop, [4])]),
  (false, [(.iload_n 1, []), (.bipush 32, []), (.iand, []), (.ifCond .eq 8, [5]), (.aload_n 0, []), (.iload_n 3, []), (.putfield 18, [1, 2, 0]), (.nop, [5])]),
  (true, [(.iload_n 1, []), (.bipush 16, []), (.iand, []), (.ifCond .eq 8, [6]), (.aload_n 0, []), (.iload_n 3, []), (.putfield 22, [1, 3, 0]), (.nop, [6])]),
  (false, [(.iload_n 1, []), (.bipush 7, []), (.iand, []), (.iload_n 3, []), (.invokestatic 50, [0, 10, 6, 2, 1, 0, 1]), (.ifCond .eq 8, [7]), (.aload_n 0, []), (.iload_n 2, []), (.putfield 25, [1, 4, 0]), (.nop, [7])]),
  (false, [(.return_, [])])]
/-- TowerComputer$Board.<init>(LTowerComputer$ChipReader;)V -/
def m_2_0 : List am_B := [
  (false, [(.aload_n 0, []), (.invokespecial 3, [3, 0, 0, 1, 0, 0, 0]), (.aload_n 0, []), (.ldc 11, [0, 40002]), (.newarray .int, [1]), (.putfield 12, [2, 1, 1]), (.aload_n 0, []), (.ldc 11, [0, 40002]), (.newarray .boolean, [4]), (.putfield 16, [2, 2, 1]), (.aload_n 0, []), (.sipush 1500, []), (.newarray .int, [1]), (.putfield 20, [2, 4, 1]), (.aload_n 0, []), (.sipush 1500, []), (.newarray .int, [1]), (.putfield 23, [2, 5, 1]), (.aload_n 0, []), (.sipush 1500, []), (.newarray .int, [1]), (.putfield 26, [2, 6, 1]), (.aload_n 0, []), (.sipush 1500, []), (.newarray .boolean, [4]), (.putfield 29, [2, 7, 1]), (.aload_n 0, []), (.sipush 1500, []), (.newarray .boolean, [4]), (.putfield 32, [2, 8, 1]), (.aload_n 0, []), (.sipush 1500, []), (.newarray .int, [1]), (.putfield 35, [2, 12, 1]), (.aload_n 0, []), (.ldc 11, [0, 40002]), (.newarray .int, [1]), (.putfield 38, [2, 13, 1]), (.aload_n 0, []), (.ldc 11, [0, 40002]), (.newarray .boolean, [4]), (.putfield 41, [2, 14, 1]), (.aload_n 0, []), (.bipush 12, []), (.newarray .int, [1]), (.putfield 46, [2, 19, 1]), (.aload_n 0, []), (.sipush 1904, []), (.newarray .int, [1]), (.putfield 51, [2, 20, 1]), (.aload_n 0, []), (.bipush 16, []), (.newarray .int, [1]), (.putfield 54, [2, 21, 1]), (.aload_n 0, []), (.bipush 16, []), (.newarray .int, [1]), (.putfield 57, [2, 22, 1]), (.aload_n 0, []), (.aload_n 1, []), (.putfield 60, [2, 0, 1]), (.return_, [])])]
/-- TowerComputer$Board.wire()I -/
def m_2_1 : List am_B := [
  (false, [(.aload_n 0, []), (.getfield 12, [2, 1, 1]), (.aload_n 0, []), (.getfield 64, [2, 3, 0]), (.aload_n 0, []), (.getfield 64, [2, 3, 0]), (.iastore, []), (.aload_n 0, []), (.getfield 16, [2, 2, 1]), (.aload_n 0, []), (.getfield 64, [2, 3, 0]), (.iconst 0, []), (.bastore, [4]), (.aload_n 0, []), (.dup, []), (.getfield 64, [2, 3, 0]), (.iconst 1, []), (.iadd, []), (.putfield 64, [2, 3, 0]), (.aload_n 0, []), (.getfield 64, [2, 3, 0]), (.iconst 1, []), (.isub, []), (.ireturn, [])])]
/-- TowerComputer$Board.find(I)I -/
def m_2_2 : List am_B := [
  (false, [(.iload_n 1, []), (.istore_n 2, []), (.nop, [1])]),
  (true, [(.aload_n 0, []), (.getfield 12, [2, 1, 1]), (.iload_n 2, []), (.iaload, []), (.iload_n 2, []), (.if_icmp .eq 13, [2]), (.aload_n 0, []), (.getfield 12, [2, 1, 1]), (.iload_n 2, []), (.iaload, []), (.istore_n 2, []), (.goto (-17), [1])]),
  (false, [(.iload_n 2, []), (.ireturn, [])])]
/-- TowerComputer$Board.make()Z -/
def m_2_3 : List am_B := [
  (false, [(.aload_n 0, []), (.aload_n 0, []), (.getfield 60, [2, 0, 1]), (.getfield 68, [4, 1, 1]), (.aload_n 0, []), (.getfield 60, [2, 0, 1]), (.getfield 72, [4, 6, 0]), (.iconst 1, []), (.isub, []), (.aaload, [12]), (.putfield 75, [2, 18, 2]), (.aload_n 0, []), (.invokevirtual 79, [1, 2, 4, 1, 1, 0, 1]), (.ifCond .ne 5, [1]), (.iconst 0, []), (.ireturn, [1])]),
  (false, [(.aload_n 0, []), (.iconst 0, []), (.putfield 64, [2, 3, 0]), (.aload_n 0, []), (.invokevirtual 83, [1, 2, 1, 1, 1, 0, 1]), (.pop, []), (.aload_n 0, []), (.invokevirtual 83, [1, 2, 1, 1, 1, 0, 1]), (.pop, []), (.aload_n 0, []), (.getfield 16, [2, 2, 1]), (.iconst 1, []), (.iconst 1, []), (.bastore, [4]), (.aload_n 0, []), (.iconst 0, []), (.putfield 87, [2, 9, 0]), (.aload_n 0, []), (.iconst 0, []), (.putfield 90, [2, 10, 0]), (.aload_n 0, []), (.iconst 0, []), (.putfield 93, [2, 11, 0]), (.aload_n 0, []), (.iconst 0, []), (.putfield 96, [2, 17, 0]), (.iconst 0, []), (.istore_n 1, []), (.nop, [2])]),
  (true, [(.iload_n 1, []), (.aload_n 0, []), (.getfield 75, [2, 18, 2]), (.getfield 99, [3, 2, 0]), (.if_icmp .ge 91, [7]), (.aload_n 0, []), (.getfield 46, [2, 19, 1]), (.iload_n 1, []), (.aload_n 0, []), (.getfield 64, [2, 3, 0]), (.iastore, []), (.iconst 0, []), (.istore_n 2, []), (.nop, [3])]),
  (true, [(.iload_n 2, []), (.aload_n 0, []), (.getfield 75, [2, 18, 2]), (.getfield 102, [3, 7, 1]), (.iload_n 1, []), (.iaload, []), (.if_icmp .ge 14, [4]), (.aload_n 0, []), (.invokevirtual 83, [1, 2, 1, 1, 1, 0, 1]), (.pop, []), (.iinc 2 1, []), (.goto (-21), [3])]),
  (false, [(.iconst 0, []), (.istore_n 2, []), (.nop, [5])]),
  (true, [(.iload_n 2, []), (.aload_n 0, []), (.getfield 75, [2, 18, 2]), (.getfield 102, [3, 7, 1]), (.iload_n 1, []), (.iaload, []), (.if_icmp .ge 34, [6]), (.iload_n 1, []), (.aload_n 0, []), (.getfield 75, [2, 18, 2]), (.getfield 105, [3, 3, 0]), (.if_icmp .lt 23, [6]), (.aload_n 0, []), (.getfield 12, [2, 1, 1]), (.aload_n 0, []), (.getfield 46, [2, 19, 1]), (.iload_n 1, []), (.iaload, []), (.iload_n 2, []), (.iadd, []), (.iconst 0, []), (.iastore, []), (.iinc 2 1, []), (.goto (-41), [5])]),
  (false, [(.iinc 1 1, []), (.goto (-96), [2])]),
  (false, [(.iconst 0, []), (.istore_n 1, []), (.nop, [8])]),
  (true, [(.iload_n 1, []), (.aload_n 0, []), (.getfield 75, [2, 18, 2]), (.getfield 99, [3, 2, 0]), (.if_icmp .ge 24, [9]), (.aload_n 0, []), (.getfield 51, [2, 20, 1]), (.bipush 100, []), (.iload_n 1, []), (.iadd, []), (.aload_n 0, []), (.getfield 46, [2, 19, 1]), (.iload_n 1, []), (.iaload, []), (.iastore, []), (.iinc 1 1, []), (.goto (-29), [8])]),
  (false, [(.aload_n 0, []), (.aload_n 0, []), (.getfield 75, [2, 18, 2]), (.iconst 1, []), (.bipush 100, []), (.invokevirtual 108, [1, 2, 8, 4, 0, 0, 1]), (.aload_n 0, []), (.invokevirtual 112, [1, 2, 11, 1, 1, 0, 1]), (.ifCond .ne 5, [10]), (.iconst 0, []), (.ireturn, [1])]),
  (false, [(.aload_n 0, []), (.invokevirtual 115, [1, 2, 12, 1, 0, 0, 1]), (.iconst 1, []), (.ireturn, [1])])]
/-- TowerComputer$Board.isSmall()Z -/
def m_2_4 : List am_B := [
  (false, [(.iconst 0, []), (.istore_n 1, []), (.nop, [1])]),
  (true, [(.iload_n 1, []), (.aload_n 0, []), (.getfield 60, [2, 0, 1]), (.getfield 72, [4, 6, 0]), (.if_icmp .ge 16, [2]), (.aload_n 0, []), (.getfield 54, [2, 21, 1]), (.iload_n 1, []), (.iconst (-1), []), (.iastore, []), (.iinc 1 1, []), (.goto (-21), [1])]),
  (false, [(.aload_n 0, []), (.getfield 60, [2, 0, 1]), (.getfield 72, [4, 6, 0]), (.iconst 1, []), (.isub, []), (.istore_n 1, []), (.nop, [3])]),
  (true, [(.aload_n 0, []), (.getfield 54, [2, 21, 1]), (.iload_n 1, []), (.iaload, []), (.iconst (-1), []), (.if_icmp .ne 40, [7]), (.iconst 0, []), (.istore_n 2, []), (.nop, [4])]),
  (true, [(.iload_n 2, []), (.aload_n 0, []), (.getfield 60, [2, 0, 1]), (.getfield 72, [4, 6, 0]), (.if_icmp .ge 24, [6]), (.aload_n 0, []), (.getfield 54, [2, 21, 1]), (.iload_n 2, []), (.iaload, []), (.iconst (-1), []), (.if_icmp .ne 8, [5]), (.aload_n 0, []), (.iload_n 2, []), (.invokevirtual 118, [1, 2, 7, 2, 0, 0, 1]), (.nop, [5])]),
  (false, [(.iinc 2 1, []), (.goto (-29), [4])]),
  (false, [(.goto (-44), [3])]),
  (false, [(.aload_n 0, []), (.getfield 54, [2, 21, 1]), (.iload_n 1, []), (.iaload, []), (.sipush 1500, []), (.if_icmp .gt 18, [8]), (.aload_n 0, []), (.getfield 57, [2, 22, 1]), (.iload_n 1, []), (.iaload, []), (.ldc 122, [0, 40000]), (.if_icmp .gt 7, [8]), (.iconst 1, []), (.goto 4, [9])]),
  (false, [(.iconst 0, []), (.nop, [9])]),
  (false, [(.ireturn, [1])])]
/-- TowerComputer$Board.partOf(LTowerComputer$Chip;I)LTowerComputer$Chip; -/
def m_2_5 : List am_B := [
  (false, [(.aload_n 0, []), (.getfield 60, [2, 0, 1]), (.aload_n 0, []), (.getfield 60, [2, 0, 1]), (.getfield 123, [4, 0, 1]), (.getfield 127, [5, 3, 1]), (.aload_n 1, []), (.getfield 133, [3, 8, 1]), (.iload_n 2, []), (.iaload, []), (.saload, []), (.invokevirtual 136, [1, 4, 19, 2, 3, 0, 1]), (.areturn, [])])]
/-- TowerComputer$Board.isGate(LTowerComputer$Chip;)Z -/
def m_2_6 : List am_B := [
  (false, [(.aload_n 1, []), (.aload_n 0, []), (.getfield 60, [2, 0, 1]), (.getfield 140, [4, 2, 1]), (.if_acmp .eq 14, [1]), (.aload_n 1, []), (.aload_n 0, []), (.getfield 60, [2, 0, 1]), (.getfield 143, [4, 3, 1]), (.if_acmp .ne 7, [2]), (.nop, [1])]),
  (false, [(.iconst 1, []), (.goto 4, [3])]),
  (false, [(.iconst 0, []), (.nop, [3])]),
  (false, [(.ireturn, [1])])]
/-- TowerComputer$Board.sum(I)V -/
def m_2_7 : List am_B := [
  (false, [(.aload_n 0, []), (.getfield 60, [2, 0, 1]), (.getfield 68, [4, 1, 1]), (.iload_n 1, []), (.aaload, [12]), (.astore_n 2, []), (.iconst 0, []), (.istore_n 3, []), (.iconst 0, []), (.istore 4, []), (.iconst 0, []), (.istore 5, []), (.nop, [1])]),
  (true, [(.iload 5, []), (.aload_n 2, []), (.getfield 99, [3, 2, 0]), (.if_icmp .ge 21, [2]), (.iload 4, []), (.aload_n 2, []), (.getfield 102, [3, 7, 1]), (.iload 5, []), (.iaload, []), (.iadd, []), (.istore 4, []), (.iinc 5 1, []), (.goto (-24), [1])]),
  (false, [(.iconst 0, []), (.istore 5, []), (.nop, [3])]),
  (true, [(.iload 5, []), (.aload_n 2, []), (.getfield 146, [3, 5, 0]), (.if_icmp .ge 21, [4]), (.iload 4, []), (.aload_n 2, []), (.getfield 149, [3, 10, 1]), (.iload 5, []), (.iaload, []), (.iadd, []), (.istore 4, []), (.iinc 5 1, []), (.goto (-24), [3])]),
  (false, [(.iconst 0, []), (.istore 5, []), (.nop, [5])]),
  (true, [(.iload 5, []), (.aload_n 2, []), (.getfield 152, [3, 4, 0]), (.if_icmp .ge 117, [13]), (.aload_n 0, []), (.aload_n 2, []), (.iload 5, []), (.invokevirtual 155, [1, 2, 5, 3, 3, 0, 1]), (.astore 6, []), (.aload_n 0, []), (.aload 6, []), (.invokevirtual 159, [1, 2, 6, 2, 1, 0, 1]), (.ifCond .eq 7, [6]), (.iconst (-1), []), (.goto 12, [7])]),
  (false, [(.aload_n 0, []), (.getfield 60, [2, 0, 1]), (.aload 6, []), (.invokevirtual 163, [1, 4, 23, 2, 1, 0, 1]), (.nop, [7])]),
  (true, [(.istore 7, []), (.iload 7, []), (.iconst (-1), []), (.if_icmp .eq 15, [8]), (.aload_n 0, []), (.getfield 54, [2, 21, 1]), (.iload 7, []), (.iaload, []), (.iconst (-1), []), (.if_icmp .ne 4, [8]), (.return_, [])]),
  (false, [(.sipush 1501, []), (.iload_n 3, []), (.iload 7, []), (.iconst (-1), []), (.if_icmp .ne 7, [9]), (.iconst 1, []), (.goto 10, [10])]),
  (false, [(.aload_n 0, []), (.getfield 54, [2, 21, 1]), (.iload 7, []), (.iaload, []), (.nop, [10])]),
  (true, [(.iadd, []), (.invokestatic 167, [4, 0, 0, 2, 0, 0, 0]), (.istore_n 3, []), (.ldc 173, [0, 40001]), (.iload 4, []), (.iload 7, []), (.iconst (-1), []), (.if_icmp .ne 11, [11]), (.aload 6, []), (.getfield 99, [3, 2, 0]), (.goto 10, [12])]),
  (false, [(.aload_n 0, []), (.getfield 57, [2, 22, 1]), (.iload 7, []), (.iaload, []), (.nop, [12])]),
  (false, [(.iadd, []), (.invokestatic 167, [4, 0, 0, 2, 0, 0, 0]), (.istore 4, []), (.iinc 5 1, []), (.goto (-120), [5])]),
  (false, [(.aload_n 0, []), (.getfield 54, [2, 21, 1]), (.iload_n 1, []), (.iload_n 3, []), (.iastore, []), (.aload_n 0, []), (.getfield 57, [2, 22, 1]), (.iload_n 1, []), (.ldc 173, [0, 40001]), (.iload 4, []), (.invokestatic 167, [4, 0, 0, 2, 0, 0, 0]), (.iastore, []), (.return_, [])])]
/-- TowerComputer$Board.build(LTowerComputer$Chip;II)V -/
def m_2_8 : List am_B := [
  (false, [(.bipush 112, []), (.iload_n 2, []), (.imul, []), (.istore 4, []), (.iload 4, []), (.bipush 100, []), (.iadd, []), (.istore 5, []), (.iconst 0, []), (.istore 6, []), (.nop, [1])]),
  (true, [(.iload 6, []), (.aload_n 1, []), (.getfield 146, [3, 5, 0]), (.if_icmp .ge 49, [4]), (.aload_n 0, []), (.getfield 51, [2, 20, 1]), (.iload 4, []), (.iload 6, []), (.iadd, []), (.aload_n 0, []), (.getfield 64, [2, 3, 0]), (.iastore, []), (.iconst 0, []), (.istore 7, []), (.nop, [2])]),
  (true, [(.iload 7, []), (.aload_n 1, []), (.getfield 149, [3, 10, 1]), (.iload 6, []), (.iaload, []), (.if_icmp .ge 14, [3]), (.aload_n 0, []), (.invokevirtual 83, [1, 2, 1, 1, 1, 0, 1]), (.pop, []), (.iinc 7 1, []), (.goto (-20), [2])]),
  (false, [(.iinc 6 1, []), (.goto (-52), [1])]),
  (false, [(.iconst 0, []), (.istore 6, []), (.nop, [5])]),
  (true, [(.iload 6, []), (.aload_n 1, []), (.getfield 152, [3, 4, 0]), (.if_icmp .ge 141, [12]), (.aload_n 0, []), (.aload_n 1, []), (.iload 6, []), (.invokevirtual 155, [1, 2, 5, 3, 3, 0, 1]), (.astore 7, []), (.iconst 0, []), (.istore 8, []), (.nop, [6])]),
  (true, [(.iload 8, []), (.aload 7, []), (.getfield 99, [3, 2, 0]), (.if_icmp .ge 55, [9]), (.aload_n 0, []), (.getfield 51, [2, 20, 1]), (.iload 5, []), (.iload 8, []), (.iadd, []), (.aload_n 0, []), (.getfield 64, [2, 3, 0]), (.iastore, []), (.iconst 0, []), (.istore 9, []), (.nop, [7])]),
  (true, [(.iload 9, []), (.aload 7, []), (.getfield 102, [3, 7, 1]), (.iload 8, []), (.iaload, []), (.if_icmp .ge 19, [8]), (.aload_n 0, []), (.getfield 12, [2, 1, 1]), (.aload_n 0, []), (.invokevirtual 83, [1, 2, 1, 1, 1, 0, 1]), (.iconst 0, []), (.iastore, []), (.iinc 9 1, []), (.goto (-26), [7])]),
  (false, [(.iinc 8 1, []), (.goto (-59), [6])]),
  (false, [(.aload_n 0, []), (.aload 7, []), (.invokevirtual 159, [1, 2, 6, 2, 1, 0, 1]), (.ifCond .eq 11, [10]), (.aload_n 0, []), (.aload 7, []), (.iload 5, []), (.invokevirtual 174, [1, 2, 9, 3, 0, 0, 1]), (.nop, [10])]),
  (true, [(.aload_n 0, []), (.aload_n 1, []), (.aload 7, []), (.aload_n 1, []), (.getfield 133, [3, 8, 1]), (.iload 6, []), (.iaload, []), (.iconst 2, []), (.iadd, []), (.iload_n 3, []), (.iload 4, []), (.iload 5, []), (.invokevirtual 178, [1, 2, 10, 7, 0, 0, 1]), (.aload_n 0, []), (.aload 7, []), (.invokevirtual 159, [1, 2, 6, 2, 1, 0, 1]), (.ifCond .ne 14, [11]), (.aload_n 0, []), (.aload 7, []), (.iload_n 2, []), (.iconst 1, []), (.iadd, []), (.iload 5, []), (.invokevirtual 108, [1, 2, 8, 4, 0, 0, 1]), (.nop, [11])]),
  (false, [(.iinc 6 1, []), (.goto (-144), [5])]),
  (false, [(.return_, [])])]
/-- TowerComputer$Board.gate(LTowerComputer$Chip;I)V -/
def m_2_9 : List am_B := [
  (false, [(.aload_n 0, []), (.getfield 51, [2, 20, 1]), (.iload_n 2, []), (.aload_n 1, []), (.getfield 105, [3, 3, 0]), (.iadd, []), (.iaload, []), (.istore_n 3, []), (.aload_n 0, []), (.getfield 12, [2, 1, 1]), (.iload_n 3, []), (.iload_n 3, []), (.iastore, []), (.aload_n 0, []), (.getfield 29, [2, 7, 1]), (.aload_n 0, []), (.getfield 87, [2, 9, 0]), (.aload_n 1, []), (.aload_n 0, []), (.getfield 60, [2, 0, 1]), (.getfield 143, [4, 3, 1]), (.if_acmp .ne 7, [1]), (.iconst 1, []), (.goto 4, [2])]),
  (false, [(.iconst 0, []), (.nop, [2])]),
  (true, [(.bastore, [4]), (.aload_n 0, []), (.getfield 20, [2, 4, 1]), (.aload_n 0, []), (.getfield 87, [2, 9, 0]), (.aload_n 0, []), (.getfield 51, [2, 20, 1]), (.iload_n 2, []), (.iaload, []), (.iastore, []), (.aload_n 0, []), (.getfield 23, [2, 5, 1]), (.aload_n 0, []), (.getfield 87, [2, 9, 0]), (.aload_n 0, []), (.getfield 51, [2, 20, 1]), (.aload_n 1, []), (.aload_n 0, []), (.getfield 60, [2, 0, 1]), (.getfield 140, [4, 2, 1]), (.if_acmp .ne 9, [3]), (.iload_n 2, []), (.iconst 1, []), (.iadd, []), (.goto 4, [4])]),
  (false, [(.iload_n 2, []), (.nop, [4])]),
  (true, [(.iaload, []), (.iastore, []), (.aload_n 0, []), (.getfield 26, [2, 6, 1]), (.aload_n 0, []), (.getfield 87, [2, 9, 0]), (.iload_n 3, []), (.iastore, []), (.aload_n 0, []), (.dup, []), (.getfield 90, [2, 10, 0]), (.aload_n 1, []), (.aload_n 0, []), (.getfield 60, [2, 0, 1]), (.getfield 140, [4, 2, 1]), (.if_acmp .ne 7, [5]), (.iconst 1, []), (.goto 4, [6])]),
  (false, [(.iconst 0, []), (.nop, [6])]),
  (true, [(.iadd, []), (.putfield 90, [2, 10, 0]), (.aload_n 0, []), (.dup, []), (.getfield 93, [2, 11, 0]), (.aload_n 1, []), (.aload_n 0, []), (.getfield 60, [2, 0, 1]), (.getfield 143, [4, 3, 1]), (.if_acmp .ne 7, [7]), (.iconst 1, []), (.goto 4, [8])]),
  (false, [(.iconst 0, []), (.nop, [8])]),
  (false, [(.iadd, []), (.putfield 93, [2, 11, 0]), (.aload_n 0, []), (.dup, []), (.getfield 87, [2, 9, 0]), (.iconst 1, []), (.iadd, []), (.putfield 87, [2, 9, 0]), (.return_, [])])]
/-- TowerComputer$Board.connect(LTowerComputer$Chip;LTowerComputer$Chip;IIII)V -/
def m_2_10 : List am_B := [
  (false, [(.aload_n 0, []), (.getfield 60, [2, 0, 1]), (.astore 7, []), (.aload 7, []), (.iload_n 3, []), (.putfield 182, [4, 5, 0]), (.iconst 1, []), (.istore 8, []), (.nop, [1])]),
  (true, [(.iload 8, []), (.ifCond .eq 320, [16]), (.aload_n 2, []), (.aload 7, []), (.invokevirtual 185, [1, 4, 3, 1, 1, 0, 1]), (.invokevirtual 188, [1, 3, 2, 2, 1, 0, 1]), (.istore 9, []), (.aload 7, []), (.dup, []), (.getfield 182, [4, 5, 0]), (.iconst 1, []), (.iadd, []), (.putfield 182, [4, 5, 0]), (.aload 7, []), (.aload_n 2, []), (.getfield 102, [3, 7, 1]), (.iload 9, []), (.iaload, []), (.invokevirtual 192, [1, 4, 25, 2, 1, 0, 1]), (.pop, []), (.aload_n 0, []), (.getfield 51, [2, 20, 1]), (.iload 6, []), (.iload 9, []), (.iadd, []), (.iaload, []), (.aload 7, []), (.getfield 195, [4, 9, 0]), (.iadd, []), (.istore 10, []), (.aload 7, []), (.getfield 198, [4, 10, 0]), (.aload 7, []), (.getfield 195, [4, 9, 0]), (.isub, []), (.iconst 1, []), (.iadd, []), (.istore 11, []), (.aload 7, []), (.dup, []), (.getfield 182, [4, 5, 0]), (.iconst 1, []), (.iadd, []), (.putfield 182, [4, 5, 0]), (.aload 7, []), (.invokevirtual 185, [1, 4, 3, 1, 1, 0, 1]), (.istore 12, []), (.aload 7, []), (.invokevirtual 201, [1, 4, 2, 1, 1, 0, 1]), (.iconst 1, []), (.if_icmp .ne 7, [3]), (.nop, [2])]),
  (true, [(.iconst 1, []), (.goto 4, [4])]),
  (false, [(.iconst 0, []), (.nop, [4])]),
  (true, [(.istore 13, []), (.aload 7, []), (.dup, []), (.getfield 182, [4, 5, 0]), (.iconst 1, []), (.iadd, []), (.putfield 182, [4, 5, 0]), (.iload 13, []), (.ifCond .eq 7, [5]), (.iconst (-1), []), (.goto 44, [7])]),
  (false, [(.aload_n 1, []), (.iload 12, []), (.invokevirtual 188, [1, 3, 2, 2, 1, 0, 1]), (.iconst (-1), []), (.if_icmp .ne 20, [6]), (.aload_n 0, []), (.getfield 51, [2, 20, 1]), (.iload 5, []), (.aload_n 1, []), (.iload 12, []), (.invokevirtual 204, [1, 3, 3, 2, 1, 0, 1]), (.iadd, []), (.iaload, []), (.goto 17, [7])]),
  (false, [(.aload_n 0, []), (.getfield 51, [2, 20, 1]), (.iload 4, []), (.aload_n 1, []), (.iload 12, []), (.invokevirtual 188, [1, 3, 2, 2, 1, 0, 1]), (.iadd, []), (.iaload, []), (.nop, [7])]),
  (true, [(.istore 14, []), (.iload 13, []), (.ifCond .ne 40, [8]), (.aload_n 1, []), (.iload 12, []), (.invokevirtual 188, [1, 3, 2, 2, 1, 0, 1]), (.iconst (-1), []), (.if_icmp .eq 30, [8]), (.aload 7, []), (.aload_n 1, []), (.getfield 102, [3, 7, 1]), (.aload_n 1, []), (.iload 12, []), (.invokevirtual 188, [1, 3, 2, 2, 1, 0, 1]), (.iaload, []), (.invokevirtual 192, [1, 4, 25, 2, 1, 0, 1]), (.pop, []), (.iload 14, []), (.aload 7, []), (.getfield 195, [4, 9, 0]), (.iadd, []), (.istore 14, []), (.nop, [8])]),
  (false, [(.iconst 0, []), (.istore 15, []), (.nop, [9])]),
  (true, [(.iload 15, []), (.iload 11, []), (.if_icmp .ge 80, [15]), (.iload 13, []), (.ifCond .eq 27, [12]), (.aload_n 0, []), (.getfield 12, [2, 1, 1]), (.iload 10, []), (.iload 15, []), (.iadd, []), (.iload 12, []), (.iconst 4, []), (.if_icmp .ne 7, [10]), (.iconst 1, []), (.goto 4, [11])]),
  (false, [(.iconst 0, []), (.nop, [11])]),
  (false, [(.iastore, []), (.goto 45, [14])]),
  (false, [(.iload 9, []), (.aload_n 2, []), (.getfield 105, [3, 3, 0]), (.if_icmp .ge 21, [13]), (.aload_n 0, []), (.getfield 12, [2, 1, 1]), (.iload 10, []), (.iload 15, []), (.iadd, []), (.iload 14, []), (.iload 15, []), (.iadd, []), (.iastore, []), (.goto 18, [14])]),
  (false, [(.aload_n 0, []), (.getfield 12, [2, 1, 1]), (.iload 14, []), (.iload 15, []), (.iadd, []), (.iload 10, []), (.iload 15, []), (.iadd, []), (.iastore, []), (.nop, [14])]),
  (false, [(.iinc 15 1, []), (.goto (-81), [9])]),
  (false, [(.aload 7, []), (.bipush 44, []), (.invokevirtual 207, [1, 4, 8, 2, 1, 0, 1]), (.istore 8, []), (.aload 7, []), (.dup, []), (.getfield 182, [4, 5, 0]), (.iconst 1, []), (.iadd, []), (.putfield 182, [4, 5, 0]), (.goto (-319), [1])]),
  (false, [(.return_, [])])]
/-- TowerComputer$Board.sort()Z -/
def m_2_11 : List am_B := [
  (false, [(.iconst 0, []), (.istore_n 1, []), (.nop, [1])]),
  (true, [(.iload_n 1, []), (.aload_n 0, []), (.getfield 64, [2, 3, 0]), (.if_icmp .ge 37, [4]), (.aload_n 0, []), (.getfield 41, [2, 14, 1]), (.iload_n 1, []), (.aload_n 0, []), (.getfield 12, [2, 1, 1]), (.iload_n 1, []), (.iaload, []), (.iload_n 1, []), (.if_icmp .ne 7, [2]), (.iconst 1, []), (.goto 4, [3])]),
  (false, [(.iconst 0, []), (.nop, [3])]),
  (false, [(.bastore, [4]), (.aload_n 0, []), (.getfield 38, [2, 13, 1]), (.iload_n 1, []), (.iconst 0, []), (.iastore, []), (.iinc 1 1, []), (.goto (-39), [1])]),
  (false, [(.iconst 0, []), (.istore_n 1, []), (.nop, [5])]),
  (true, [(.iload_n 1, []), (.aload_n 0, []), (.getfield 87, [2, 9, 0]), (.if_icmp .ge 65, [6]), (.aload_n 0, []), (.getfield 20, [2, 4, 1]), (.iload_n 1, []), (.aload_n 0, []), (.aload_n 0, []), (.getfield 20, [2, 4, 1]), (.iload_n 1, []), (.iaload, []), (.invokevirtual 210, [1, 2, 2, 2, 1, 0, 1]), (.iastore, []), (.aload_n 0, []), (.getfield 23, [2, 5, 1]), (.iload_n 1, []), (.aload_n 0, []), (.aload_n 0, []), (.getfield 23, [2, 5, 1]), (.iload_n 1, []), (.iaload, []), (.invokevirtual 210, [1, 2, 2, 2, 1, 0, 1]), (.iastore, []), (.aload_n 0, []), (.getfield 41, [2, 14, 1]), (.aload_n 0, []), (.getfield 26, [2, 6, 1]), (.iload_n 1, []), (.iaload, []), (.aload_n 0, []), (.getfield 29, [2, 7, 1]), (.iload_n 1, []), (.baload, [4]), (.bastore, [4]), (.aload_n 0, []), (.getfield 32, [2, 8, 1]), (.iload_n 1, []), (.iconst 0, []), (.bastore, [4]), (.iinc 1 1, []), (.goto (-67), [5])]),
  (false, [(.aload_n 0, []), (.iconst 0, []), (.putfield 212, [2, 15, 0]), (.aload_n 0, []), (.iconst 0, []), (.putfield 215, [2, 16, 0]), (.iconst 1, []), (.istore_n 1, []), (.nop, [7])]),
  (true, [(.iload_n 1, []), (.ifCond .eq 172, [12]), (.iconst 0, []), (.istore_n 1, []), (.iconst 0, []), (.istore_n 2, []), (.nop, [8])]),
  (true, [(.iload_n 2, []), (.aload_n 0, []), (.getfield 87, [2, 9, 0]), (.if_icmp .ge 157, [11]), (.aload_n 0, []), (.getfield 29, [2, 7, 1]), (.iload_n 2, []), (.baload, [4]), (.ifCond .ne 142, [10]), (.aload_n 0, []), (.getfield 41, [2, 14, 1]), (.aload_n 0, []), (.getfield 26, [2, 6, 1]), (.iload_n 2, []), (.iaload, []), (.baload, [4]), (.ifCond .ne 128, [10]), (.aload_n 0, []), (.getfield 41, [2, 14, 1]), (.aload_n 0, []), (.getfield 20, [2, 4, 1]), (.iload_n 2, []), (.iaload, []), (.baload, [4]), (.ifCond .eq 114, [10]), (.aload_n 0, []), (.getfield 41, [2, 14, 1]), (.aload_n 0, []), (.getfield 23, [2, 5, 1]), (.iload_n 2, []), (.iaload, []), (.baload, [4]), (.ifCond .ne 6, [9]), (.goto 97, [10])]),
  (false, [(.aload_n 0, []), (.getfield 41, [2, 14, 1]), (.aload_n 0, []), (.getfield 26, [2, 6, 1]), (.iload_n 2, []), (.iaload, []), (.iconst 1, []), (.bastore, [4]), (.aload_n 0, []), (.getfield 38, [2, 13, 1]), (.aload_n 0, []), (.getfield 26, [2, 6, 1]), (.iload_n 2, []), (.iaload, []), (.iconst 1, []), (.aload_n 0, []), (.getfield 38, [2, 13, 1]), (.aload_n 0, []), (.getfield 20, [2, 4, 1]), (.iload_n 2, []), (.iaload, []), (.iaload, []), (.aload_n 0, []), (.getfield 38, [2, 13, 1]), (.aload_n 0, []), (.getfield 23, [2, 5, 1]), (.iload_n 2, []), (.iaload, []), (.iaload, []), (.invokestatic 218, [5, 0, 0, 2, 0, 0, 0]), (.iadd, []), (.iastore, []), (.aload_n 0, []), (.aload_n 0, []), (.getfield 215, [2, 16, 0]), (.aload_n 0, []), (.getfield 38, [2, 13, 1]), (.aload_n 0, []), (.getfield 26, [2, 6, 1]), (.iload_n 2, []), (.iaload, []), (.iaload, []), (.invokestatic 218, [5, 0, 0, 2, 0, 0, 0]), (.putfield 215, [2, 16, 0]), (.aload_n 0, []), (.getfield 35, [2, 12, 1]), (.aload_n 0, []), (.getfield 212, [2, 15, 0]), (.iload_n 2, []), (.iastore, []), (.aload_n 0, []), (.dup, []), (.getfield 212, [2, 15, 0]), (.iconst 1, []), (.iadd, []), (.putfield 212, [2, 15, 0]), (.iconst 1, []), (.istore_n 1, []), (.nop, [10])]),
  (false, [(.iinc 2 1, []), (.goto (-159), [8])]),
  (false, [(.goto (-170), [7])]),
  (false, [(.aload_n 0, []), (.getfield 212, [2, 15, 0]), (.aload_n 0, []), (.getfield 90, [2, 10, 0]), (.if_icmp .ne 7, [13]), (.iconst 1, []), (.goto 4, [14])]),
  (false, [(.iconst 0, []), (.nop, [14])]),
  (false, [(.ireturn, [1])])]
/-- TowerComputer$Board.settle()V -/
def m_2_12 : List am_B := [
  (false, [(.iconst 0, []), (.istore_n 1, []), (.nop, [1])]),
  (true, [(.iload_n 1, []), (.aload_n 0, []), (.getfield 212, [2, 15, 0]), (.if_icmp .ge 60, [5]), (.aload_n 0, []), (.getfield 35, [2, 12, 1]), (.iload_n 1, []), (.iaload, []), (.istore_n 2, []), (.aload_n 0, []), (.getfield 16, [2, 2, 1]), (.aload_n 0, []), (.getfield 26, [2, 6, 1]), (.iload_n 2, []), (.iaload, []), (.aload_n 0, []), (.getfield 16, [2, 2, 1]), (.aload_n 0, []), (.getfield 20, [2, 4, 1]), (.iload_n 2, []), (.iaload, []), (.baload, [4]), (.ifCond .eq 17, [2]), (.aload_n 0, []), (.getfield 16, [2, 2, 1]), (.aload_n 0, []), (.getfield 23, [2, 5, 1]), (.iload_n 2, []), (.iaload, []), (.baload, [4]), (.ifCond .ne 7, [3]), (.nop, [2])]),
  (false, [(.iconst 1, []), (.goto 4, [4])]),
  (false, [(.iconst 0, []), (.nop, [4])]),
  (false, [(.bastore, [4]), (.iinc 1 1, []), (.goto (-62), [1])]),
  (false, [(.return_, [])])]
/-- TowerComputer$Board.drive(II)V -/
def m_2_13 : List am_B := [
  (false, [(.iconst 0, []), (.istore_n 3, []), (.nop, [1])]),
  (true, [(.iload_n 3, []), (.aload_n 0, []), (.getfield 75, [2, 18, 2]), (.getfield 102, [3, 7, 1]), (.iload_n 1, []), (.iaload, []), (.if_icmp .ge 36, [4]), (.aload_n 0, []), (.getfield 16, [2, 2, 1]), (.aload_n 0, []), (.getfield 46, [2, 19, 1]), (.iload_n 1, []), (.iaload, []), (.iload_n 3, []), (.iadd, []), (.iload_n 2, []), (.iload_n 3, []), (.ishr, []), (.iconst 1, []), (.iand, []), (.iconst 1, []), (.if_icmp .ne 7, [2]), (.iconst 1, []), (.goto 4, [3])]),
  (false, [(.iconst 0, []), (.nop, [3])]),
  (false, [(.bastore, [4]), (.iinc 3 1, []), (.goto (-43), [1])]),
  (false, [(.aload_n 0, []), (.invokevirtual 115, [1, 2, 12, 1, 0, 0, 1]), (.return_, [])])]
/-- TowerComputer$Board.value(I)I -/
def m_2_14 : List am_B := [
  (false, [(.iconst 0, []), (.istore_n 2, []), (.iconst 0, []), (.istore_n 3, []), (.nop, [1])]),
  (true, [(.iload_n 3, []), (.aload_n 0, []), (.getfield 75, [2, 18, 2]), (.getfield 102, [3, 7, 1]), (.iload_n 1, []), (.iaload, []), (.if_icmp .ge 39, [4]), (.iload_n 2, []), (.aload_n 0, []), (.getfield 16, [2, 2, 1]), (.aload_n 0, []), (.aload_n 0, []), (.getfield 46, [2, 19, 1]), (.iload_n 1, []), (.iaload, []), (.iload_n 3, []), (.iadd, []), (.invokevirtual 210, [1, 2, 2, 2, 1, 0, 1]), (.baload, [4]), (.ifCond .eq 9, [2]), (.iconst 1, []), (.iload_n 3, []), (.ishl, []), (.goto 4, [3])]),
  (false, [(.iconst 0, []), (.nop, [3])]),
  (false, [(.ior, []), (.istore_n 2, []), (.iinc 3 1, []), (.goto (-46), [1])]),
  (false, [(.iload_n 2, []), (.ireturn, [])])]
/-- TowerComputer$Board.tick()I -/
def m_2_15 : List am_B := [
  (false, [(.iconst 0, []), (.istore_n 1, []), (.iconst 0, []), (.istore_n 2, []), (.nop, [1])]),
  (true, [(.iload_n 2, []), (.aload_n 0, []), (.getfield 87, [2, 9, 0]), (.if_icmp .ge 26, [2]), (.aload_n 0, []), (.getfield 32, [2, 8, 1]), (.iload_n 2, []), (.aload_n 0, []), (.getfield 16, [2, 2, 1]), (.aload_n 0, []), (.getfield 20, [2, 4, 1]), (.iload_n 2, []), (.iaload, []), (.baload, [4]), (.bastore, [4]), (.iinc 2 1, []), (.goto (-28), [1])]),
  (false, [(.iconst 0, []), (.istore_n 2, []), (.nop, [3])]),
  (true, [(.iload_n 2, []), (.aload_n 0, []), (.getfield 87, [2, 9, 0]), (.if_icmp .ge 66, [8]), (.aload_n 0, []), (.getfield 29, [2, 7, 1]), (.iload_n 2, []), (.baload, [4]), (.ifCond .ne 6, [4]), (.goto 48, [7])]),
  (false, [(.iload_n 1, []), (.aload_n 0, []), (.getfield 16, [2, 2, 1]), (.aload_n 0, []), (.getfield 26, [2, 6, 1]), (.iload_n 2, []), (.iaload, []), (.baload, [4]), (.aload_n 0, []), (.getfield 32, [2, 8, 1]), (.iload_n 2, []), (.baload, [4]), (.if_icmp .eq 7, [5]), (.iconst 1, []), (.goto 4, [6])]),
  (false, [(.iconst 0, []), (.nop, [6])]),
  (true, [(.iadd, []), (.istore_n 1, []), (.aload_n 0, []), (.getfield 16, [2, 2, 1]), (.aload_n 0, []), (.getfield 26, [2, 6, 1]), (.iload_n 2, []), (.iaload, []), (.aload_n 0, []), (.getfield 32, [2, 8, 1]), (.iload_n 2, []), (.baload, [4]), (.bastore, [4]), (.nop, [7])]),
  (false, [(.iinc 2 1, []), (.goto (-68), [3])]),
  (false, [(.aload_n 0, []), (.dup, []), (.getfield 96, [2, 17, 0]), (.iconst 1, []), (.iadd, []), (.putfield 96, [2, 17, 0]), (.aload_n 0, []), (.invokevirtual 115, [1, 2, 12, 1, 0, 0, 1]), (.iload_n 1, []), (.ireturn, [])])]
/-- TowerComputer$Board.ones()I -/
def m_2_16 : List am_B := [
  (false, [(.iconst 0, []), (.istore_n 1, []), (.iconst 0, []), (.istore_n 2, []), (.nop, [1])]),
  (true, [(.iload_n 2, []), (.aload_n 0, []), (.getfield 212, [2, 15, 0]), (.if_icmp .ge 36, [4]), (.iload_n 1, []), (.aload_n 0, []), (.getfield 16, [2, 2, 1]), (.aload_n 0, []), (.getfield 26, [2, 6, 1]), (.aload_n 0, []), (.getfield 35, [2, 12, 1]), (.iload_n 2, []), (.iaload, []), (.iaload, []), (.baload, [4]), (.ifCond .eq 7, [2]), (.iconst 1, []), (.goto 4, [3])]),
  (false, [(.iconst 0, []), (.nop, [3])]),
  (false, [(.iadd, []), (.istore_n 1, []), (.iinc 2 1, []), (.goto (-38), [1])]),
  (false, [(.iload_n 1, []), (.ireturn, [])])]
/-- TowerComputer$Chip.<init>()V -/
def m_3_0 : List am_B := [
  (false, [(.aload_n 0, []), (.invokespecial 3, [3, 0, 0, 1, 0, 0, 0]), (.aload_n 0, []), (.bipush 12, []), (.newarray .int, [1]), (.putfield 11, [3, 6, 1]), (.aload_n 0, []), (.bipush 12, []), (.newarray .int, [1]), (.putfield 15, [3, 7, 1]), (.aload_n 0, []), (.bipush 24, []), (.newarray .int, [1]), (.putfield 18, [3, 8, 1]), (.aload_n 0, []), (.bipush 100, []), (.newarray .int, [1]), (.putfield 21, [3, 9, 1]), (.aload_n 0, []), (.bipush 100, []), (.newarray .int, [1]), (.putfield 24, [3, 10, 1]), (.aload_n 0, []), (.bipush 100, []), (.newarray .boolean, [4]), (.putfield 27, [3, 11, 1]), (.return_, [])])]
/-- TowerComputer$Chip.begin(II)V -/
def m_3_1 : List am_B := [
  (false, [(.aload_n 0, []), (.iload_n 1, []), (.putfield 31, [3, 0, 0]), (.aload_n 0, []), (.iload_n 2, []), (.putfield 35, [3, 1, 0]), (.aload_n 0, []), (.iconst 0, []), (.putfield 38, [3, 2, 0]), (.aload_n 0, []), (.iconst 0, []), (.putfield 41, [3, 3, 0]), (.aload_n 0, []), (.iconst 0, []), (.putfield 44, [3, 4, 0]), (.aload_n 0, []), (.iconst 0, []), (.putfield 47, [3, 5, 0]), (.return_, [])])]
/-- TowerComputer$Chip.pin(I)I -/
def m_3_2 : List am_B := [
  (false, [(.iconst 0, []), (.istore_n 2, []), (.nop, [1])]),
  (true, [(.iload_n 2, []), (.aload_n 0, []), (.getfield 38, [3, 2, 0]), (.if_icmp .ge 21, [3]), (.aload_n 0, []), (.getfield 11, [3, 6, 1]), (.iload_n 2, []), (.iaload, []), (.iload_n 1, []), (.if_icmp .ne 5, [2]), (.iload_n 2, []), (.ireturn, [])]),
  (false, [(.iinc 2 1, []), (.goto (-23), [1])]),
  (false, [(.iconst (-1), []), (.ireturn, [])])]
/-- TowerComputer$Chip.innerOf(I)I -/
def m_3_3 : List am_B := [
  (false, [(.iconst 0, []), (.istore_n 2, []), (.nop, [1])]),
  (true, [(.iload_n 2, []), (.aload_n 0, []), (.getfield 47, [3, 5, 0]), (.if_icmp .ge 21, [3]), (.aload_n 0, []), (.getfield 21, [3, 9, 1]), (.iload_n 2, []), (.iaload, []), (.iload_n 1, []), (.if_icmp .ne 5, [2]), (.iload_n 2, []), (.ireturn, [])]),
  (false, [(.iinc 2 1, []), (.goto (-23), [1])]),
  (false, [(.iconst (-1), []), (.ireturn, [])])]
/-- TowerComputer$ChipReader.<init>([B)V -/
def m_4_0 : List am_B := [
  (false, [(.aload_n 0, []), (.invokespecial 3, [3, 0, 0, 1, 0, 0, 0]), (.aload_n 0, []), (.bipush 16, []), (.anewarray 11, [12]), (.putfield 13, [4, 1, 1]), (.aload_n 0, []), (.new 11, [3]), (.dup, []), (.invokespecial 17, [2, 3, 0, 1, 0, 0, 0]), (.putfield 18, [4, 2, 1]), (.aload_n 0, []), (.new 11, [3]), (.dup, []), (.invokespecial 17, [2, 3, 0, 1, 0, 0, 0]), (.putfield 22, [4, 3, 1]), (.aload_n 0, []), (.new 25, [20]), (.dup, []), (.ldc 27, [1, 37]), (.invokespecial 29, [8, 0, 0, 2, 0, 0, 0]), (.putfield 32, [4, 4, 1]), (.aload_n 0, []), (.bipush 12, []), (.newarray .int, [1]), (.putfield 35, [4, 11, 1]), (.aload_n 0, []), (.bipush 12, []), (.newarray .int, [1]), (.putfield 39, [4, 12, 1]), (.aload_n 0, []), (.bipush 16, []), (.bipush 12, []), (.multianewarray 42 2, [13, 1]), (.putfield 44, [4, 13, 1]), (.aload_n 0, []), (.bipush 16, []), (.newarray .boolean, [4]), (.putfield 47, [4, 14, 1]), (.aload_n 0, []), (.new 51, [5]), (.dup, []), (.aload_n 1, []), (.invokespecial 53, [2, 5, 0, 2, 0, 0, 0]), (.putfield 56, [4, 0, 1]), (.iconst 0, []), (.istore_n 2, []), (.nop, [1])]),
  (true, [(.iload_n 2, []), (.bipush 16, []), (.if_icmp .ge 22, [2]), (.aload_n 0, []), (.getfield 13, [4, 1, 1]), (.iload_n 2, []), (.new 11, [3]), (.dup, []), (.invokespecial 17, [2, 3, 0, 1, 0, 0, 0]), (.aastore, [12]), (.iinc 2 1, []), (.goto (-22), [1])]),
  (false, [(.aload_n 0, []), (.getfield 18, [4, 2, 1]), (.bipush 6, []), (.iconst 2, []), (.bipush 8, []), (.bipush 9, []), (.invokestatic 60, [0, 4, 1, 5, 0, 0, 1]), (.aload_n 0, []), (.getfield 22, [4, 3, 1]), (.bipush 7, []), (.iconst 1, []), (.bipush 10, []), (.iconst 0, []), (.invokestatic 60, [0, 4, 1, 5, 0, 0, 1]), (.return_, [])])]
/-- TowerComputer$ChipReader.gate(LTowerComputer$Chip;IIII)V -/
def m_4_1 : List am_B := [
  (false, [(.aload_n 0, []), (.iload_n 1, []), (.iconst 0, []), (.invokevirtual 64, [1, 3, 1, 3, 0, 0, 1]), (.aload_n 0, []), (.iload_n 2, []), (.putfield 68, [3, 3, 0]), (.aload_n 0, []), (.iload_n 2, []), (.iconst 1, []), (.iadd, []), (.putfield 72, [3, 2, 0]), (.aload_n 0, []), (.getfield 75, [3, 6, 1]), (.iconst 0, []), (.iload_n 3, []), (.iastore, []), (.iload_n 2, []), (.iconst 2, []), (.if_icmp .ne 11, [1]), (.aload_n 0, []), (.getfield 75, [3, 6, 1]), (.iconst 1, []), (.iload 4, []), (.iastore, []), (.nop, [1])]),
  (false, [(.aload_n 0, []), (.getfield 75, [3, 6, 1]), (.iload_n 2, []), (.bipush 11, []), (.iastore, []), (.iconst 0, []), (.istore 5, []), (.nop, [2])]),
  (true, [(.iload 5, []), (.aload_n 0, []), (.getfield 72, [3, 2, 0]), (.if_icmp .ge 17, [3]), (.aload_n 0, []), (.getfield 78, [3, 7, 1]), (.iload 5, []), (.iconst 1, []), (.iastore, []), (.iinc 5 1, []), (.goto (-20), [2])]),
  (false, [(.return_, [])])]
/-- TowerComputer$ChipReader.kind()I -/
def m_4_2 : List am_B := [
  (false, [(.aload_n 0, []), (.getfield 56, [4, 0, 1]), (.getfield 81, [5, 2, 1]), (.aload_n 0, []), (.getfield 85, [4, 5, 0]), (.baload, [2]), (.ireturn, [])])]
/-- TowerComputer$ChipReader.value()I -/
def m_4_3 : List am_B := [
  (false, [(.aload_n 0, []), (.getfield 56, [4, 0, 1]), (.getfield 88, [5, 3, 1]), (.aload_n 0, []), (.getfield 85, [4, 5, 0]), (.saload, []), (.ireturn, [])])]
/-- TowerComputer$ChipReader.here()I -/
def m_4_4 : List am_B := [
  (false, [(.aload_n 0, []), (.getfield 56, [4, 0, 1]), (.getfield 92, [5, 4, 1]), (.aload_n 0, []), (.getfield 85, [4, 5, 0]), (.iaload, []), (.ireturn, [])])]
/-- TowerComputer$ChipReader.fail(II)V -/
def m_4_5 : List am_B := [
  (false, [(.aload_n 0, []), (.iload_n 1, []), (.putfield 95, [4, 7, 0]), (.aload_n 0, []), (.iload_n 2, []), (.putfield 98, [4, 8, 0]), (.aload_n 0, []), (.getfield 32, [4, 4, 1]), (.athrow, [])])]
/-- TowerComputer$ChipReader.check(ZII)V -/
def m_4_6 : List am_B := [
  (false, [(.iload_n 1, []), (.ifCond .ne 9, [1]), (.aload_n 0, []), (.iload_n 2, []), (.iload_n 3, []), (.invokevirtual 101, [1, 4, 5, 3, 0, 0, 1]), (.nop, [1])]),
  (false, [(.return_, [])])]
/-- TowerComputer$ChipReader.need(Z)V -/
def m_4_7 : List am_B := [
  (false, [(.aload_n 0, []), (.iload_n 1, []), (.iconst 1, []), (.aload_n 0, []), (.invokevirtual 104, [1, 4, 4, 1, 1, 0, 1]), (.invokevirtual 108, [1, 4, 6, 4, 0, 0, 1]), (.return_, [])])]
/-- TowerComputer$ChipReader.isSign(I)Z -/
def m_4_8 : List am_B := [
  (false, [(.aload_n 0, []), (.invokevirtual 112, [1, 4, 2, 1, 1, 0, 1]), (.iconst 4, []), (.if_icmp .ne 15, [1]), (.aload_n 0, []), (.invokevirtual 115, [1, 4, 3, 1, 1, 0, 1]), (.iload_n 1, []), (.if_icmp .ne 7, [1]), (.iconst 1, []), (.goto 4, [2])]),
  (false, [(.iconst 0, []), (.nop, [2])]),
  (false, [(.ireturn, [1])])]
/-- TowerComputer$ChipReader.isWord(I)Z -/
def m_4_9 : List am_B := [
  (false, [(.aload_n 0, []), (.invokevirtual 112, [1, 4, 2, 1, 1, 0, 1]), (.iconst 1, []), (.if_icmp .ne 15, [1]), (.aload_n 0, []), (.invokevirtual 115, [1, 4, 3, 1, 1, 0, 1]), (.iload_n 1, []), (.if_icmp .ne 7, [1]), (.iconst 1, []), (.goto 4, [2])]),
  (false, [(.iconst 0, []), (.nop, [2])]),
  (false, [(.ireturn, [1])])]
/-- TowerComputer$ChipReader.next()V -/
def m_4_10 : List am_B := [
  (false, [(.aload_n 0, []), (.dup, []), (.getfield 85, [4, 5, 0]), (.iconst 1, []), (.iadd, []), (.putfield 85, [4, 5, 0]), (.aload_n 0, []), (.getfield 85, [4, 5, 0]), (.sipush 2000, []), (.if_icmp .lt 31, [3]), (.aload_n 0, []), (.invokevirtual 112, [1, 4, 2, 1, 1, 0, 1]), (.ifCond .eq 24, [3]), (.aload_n 0, []), (.aload_n 0, []), (.invokevirtual 112, [1, 4, 2, 1, 1, 0, 1]), (.iconst 5, []), (.if_icmp .ne 7, [1]), (.iconst 1, []), (.goto 4, [2])]),
  (false, [(.iconst 2, []), (.nop, [2])]),
  (false, [(.aload_n 0, []), (.invokevirtual 104, [1, 4, 4, 1, 1, 0, 1]), (.invokevirtual 101, [1, 4, 5, 3, 0, 0, 1]), (.nop, [3])]),
  (false, [(.return_, [])])]
/-- TowerComputer$ChipReader.sign(I)V -/
def m_4_11 : List am_B := [
  (false, [(.aload_n 0, []), (.aload_n 0, []), (.iload_n 1, []), (.invokevirtual 118, [1, 4, 8, 2, 1, 0, 1]), (.invokevirtual 122, [1, 4, 7, 2, 0, 0, 1]), (.aload_n 0, []), (.invokevirtual 126, [1, 4, 10, 1, 0, 0, 1]), (.return_, [])])]
/-- TowerComputer$ChipReader.word(I)V -/
def m_4_12 : List am_B := [
  (false, [(.aload_n 0, []), (.aload_n 0, []), (.iload_n 1, []), (.invokevirtual 129, [1, 4, 9, 2, 1, 0, 1]), (.invokevirtual 122, [1, 4, 7, 2, 0, 0, 1]), (.aload_n 0, []), (.invokevirtual 126, [1, 4, 10, 1, 0, 0, 1]), (.return_, [])])]
/-- TowerComputer$ChipReader.read(I)I -/
def m_4_13 : List am_B := [
  (false, [(.aload_n 0, []), (.getfield 56, [4, 0, 1]), (.iload_n 1, []), (.invokevirtual 132, [1, 5, 3, 2, 0, 0, 1]), (.aload_n 0, []), (.iconst 0, []), (.putfield 136, [4, 6, 0]), (.aload_n 0, []), (.iconst 0, []), (.putfield 85, [4, 5, 0]), (.aload_n 0, []), (.iconst 0, []), (.putfield 95, [4, 7, 0]), (.aload_n 0, []), (.iconst (-1), []), (.putfield 98, [4, 8, 0]), (.nop, [1])]),
  (true, [(.aload_n 0, []), (.invokevirtual 139, [1, 4, 14, 1, 0, 9, 1]), (.aload_n 0, []), (.invokevirtual 112, [1, 4, 2, 1, 1, 9, 1]), (.ifCond .ne (-8), [1]), (.iconst 0, []), (.istore_n 2, []), (.nop, [2])]),
  (true, [(.iload_n 2, []), (.aload_n 0, []), (.getfield 136, [4, 6, 0]), (.if_icmp .ge 20, [3]), (.aload_n 0, []), (.aload_n 0, []), (.getfield 13, [4, 1, 1]), (.iload_n 2, []), (.aaload, [12]), (.iload_n 2, []), (.invokevirtual 142, [1, 4, 20, 3, 0, 9, 1]), (.iinc 2 1, []), (.goto (-22), [2])]),
  (false, [(.iconst 0, []), (.istore_n 2, []), (.nop, [4])]),
  (true, [(.iload_n 2, []), (.aload_n 0, []), (.getfield 136, [4, 6, 0]), (.if_icmp .ge 37, [7]), (.aload_n 0, []), (.aload_n 0, []), (.iload_n 2, []), (.invokevirtual 146, [1, 4, 33, 2, 1, 9, 1]), (.ifCond .ne 7, [5]), (.iconst 1, []), (.goto 4, [6])]),
  (false, [(.iconst 0, []), (.nop, [6])]),
  (false, [(.bipush 6, []), (.aload_n 0, []), (.getfield 13, [4, 1, 1]), (.iload_n 2, []), (.aaload, [12]), (.getfield 149, [3, 1, 0]), (.invokevirtual 108, [1, 4, 6, 4, 0, 9, 1]), (.iinc 2 1, []), (.goto (-39), [4])]),
  (false, [(.goto 14, [9])]),
  (true, [(.astore_n 2, []), (.aload_n 0, []), (.iconst 0, []), (.putfield 136, [4, 6, 0]), (.aload_n 0, []), (.getfield 95, [4, 7, 0]), (.ireturn, [])]),
  (false, [(.iconst 0, []), (.ireturn, [])])]
/-- TowerComputer$ChipReader.chip()V -/
def m_4_14 : List am_B := [
  (false, [(.aload_n 0, []), (.iconst 0, []), (.invokevirtual 150, [1, 4, 12, 2, 0, 0, 1]), (.aload_n 0, []), (.aload_n 0, []), (.invokevirtual 112, [1, 4, 2, 1, 1, 0, 1]), (.iconst 2, []), (.if_icmp .ne 7, [1]), (.iconst 1, []), (.goto 4, [2])]),
  (false, [(.iconst 0, []), (.nop, [2])]),
  (false, [(.invokevirtual 122, [1, 4, 7, 2, 0, 0, 1]), (.aload_n 0, []), (.aload_n 0, []), (.getfield 136, [4, 6, 0]), (.bipush 16, []), (.if_icmp .ge 7, [3]), (.iconst 1, []), (.goto 4, [4])]),
  (false, [(.iconst 0, []), (.nop, [4])]),
  (true, [(.iconst 2, []), (.aload_n 0, []), (.invokevirtual 104, [1, 4, 4, 1, 1, 0, 1]), (.invokevirtual 108, [1, 4, 6, 4, 0, 0, 1]), (.aload_n 0, []), (.getfield 13, [4, 1, 1]), (.aload_n 0, []), (.getfield 136, [4, 6, 0]), (.aaload, [12]), (.astore_n 1, []), (.aload_n 1, []), (.aload_n 0, []), (.invokevirtual 115, [1, 4, 3, 1, 1, 0, 1]), (.aload_n 0, []), (.getfield 85, [4, 5, 0]), (.invokevirtual 64, [1, 3, 1, 3, 0, 0, 1]), (.aload_n 0, []), (.invokevirtual 126, [1, 4, 10, 1, 0, 0, 1]), (.aload_n 0, []), (.bipush 123, []), (.invokevirtual 153, [1, 4, 11, 2, 0, 0, 1]), (.aload_n 0, []), (.iconst 1, []), (.invokevirtual 150, [1, 4, 12, 2, 0, 0, 1]), (.aload_n 0, []), (.aload_n 1, []), (.invokevirtual 156, [1, 4, 15, 2, 0, 0, 1]), (.aload_n 1, []), (.aload_n 1, []), (.getfield 72, [3, 2, 0]), (.putfield 68, [3, 3, 0]), (.aload_n 0, []), (.iconst 2, []), (.invokevirtual 150, [1, 4, 12, 2, 0, 0, 1]), (.aload_n 0, []), (.aload_n 1, []), (.invokevirtual 156, [1, 4, 15, 2, 0, 0, 1]), (.aload_n 0, []), (.iconst 3, []), (.invokevirtual 150, [1, 4, 12, 2, 0, 0, 1]), (.aload_n 0, []), (.bipush 58, []), (.invokevirtual 153, [1, 4, 11, 2, 0, 0, 1]), (.nop, [5])]),
  (true, [(.aload_n 0, []), (.bipush 125, []), (.invokevirtual 118, [1, 4, 8, 2, 1, 0, 1]), (.ifCond .ne 11, [6]), (.aload_n 0, []), (.aload_n 1, []), (.invokevirtual 159, [1, 4, 16, 2, 0, 0, 1]), (.goto (-14), [5])]),
  (false, [(.aload_n 0, []), (.invokevirtual 126, [1, 4, 10, 1, 0, 0, 1]), (.aload_n 1, []), (.aload_n 0, []), (.getfield 56, [4, 0, 1]), (.getfield 92, [5, 4, 1]), (.aload_n 1, []), (.getfield 149, [3, 1, 0]), (.iaload, []), (.putfield 149, [3, 1, 0]), (.aload_n 0, []), (.dup, []), (.getfield 136, [4, 6, 0]), (.iconst 1, []), (.iadd, []), (.putfield 136, [4, 6, 0]), (.return_, [])])]
